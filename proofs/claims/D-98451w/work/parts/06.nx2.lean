/-! HookSwingsModel -/
set_option maxRecDepth 100000
def RX2 : String := "HookSwingsModel"
def TX2 : u_T := fun k => match k with
  | 0 => ("HookSwingsModel", "a", "[I", true)
  | 1 => ("HookSwingsModel", "image", "[I", true)
  | 2 => ("HookSwingsModel", "texts", "[I", true)
  | 3 => ("HookSwingsModel", "tape", "[I", true)
  | 4 => ("HookSwingsModel", "taped", "I", false)
  | 5 => ("HookSwingsModel", "fault", "I", false)
  | 6 => ("HookSwingsModel", "faultPlace", "I", false)
  | 7 => ("HookSwingsModel", "at", "I", false)
  | 8 => ("HookSwingsModel", "place", "I", false)
  | 9 => ("HookSwingsModel", "token", "I", false)
  | 10 => ("HookSwingsModel", "number", "I", false)
  | 11 => ("HookSwingsModel", "word", "J", false)
  | 12 => ("HookSwingsModel", "text0", "I", false)
  | 13 => ("HookSwingsModel", "written", "I", false)
  | 14 => ("HookSwingsModel", "sort0", "I", false)
  | 15 => ("HookSwingsModel", "pile", "[I", true)
  | 16 => ("HookSwingsModel", "piled", "I", false)
  | 17 => ("HookSwingsModel", "opens", "I", false)
  | 18 => ("HookSwingsModel", "isWhole", "Z", false)
  | 19 => ("HookSwingsModel", "once", "I", false)
  | 20 => ("HookSwingsModel", "named", "[I", true)
  | 21 => ("HookSwingsModel", "agoFrom", "I", false)
  | 22 => ("HookSwingsModel", "agoEldest", "I", false)
  | 23 => ("HookSwingsModel", "values", "[J", true)
  | 24 => ("HookSwingsModel", "truth", "[Z", true)
  | 25 => ("HookSwingsModel", "isCalm", "Z", false)
  | 26 => ("HookSwingsModel", "aside", "[I", true)
  | 27 => ("HookSwingsModel", "firstMost", "I", false)
  | 28 => ("HookSwingsModel", "laterMost", "I", false)
  | 29 => ("HookSwingsModel", "pastAside", "[I", true)
  | 30 => ("HookSwingsModel", "member", "[I", true)
  | 31 => ("HookSwingsModel", "length", "[I", true)
  | 32 => ("HookSwingsModel", "row", "[I", true)
  | 33 => ("HookSwingsModel", "bestRow", "[I", true)
  | 34 => ("HookSwingsModel", "members", "I", false)
  | 35 => ("HookSwingsModel", "begins", "[I", true)
  | _ => ("HookSwingsModel", "bestBegins", "[I", true)
def tyX2 : Nat → FieldType := fun k => match k with
  | 0 => .array .int
  | 1 => .array .int
  | 2 => .array .int
  | 3 => .array .int
  | 4 => .int
  | 5 => .int
  | 6 => .int
  | 7 => .int
  | 8 => .int
  | 9 => .int
  | 10 => .int
  | 11 => .long
  | 12 => .int
  | 13 => .int
  | 14 => .int
  | 15 => .array .int
  | 16 => .int
  | 17 => .int
  | 18 => .boolean
  | 19 => .int
  | 20 => .array .int
  | 21 => .int
  | 22 => .int
  | 23 => .array .long
  | 24 => .array .boolean
  | 25 => .boolean
  | 26 => .array .int
  | 27 => .int
  | 28 => .int
  | 29 => .array .int
  | 30 => .array .int
  | 31 => .array .int
  | 32 => .array .int
  | 33 => .array .int
  | 34 => .int
  | 35 => .array .int
  | _ => .array .int
abbrev wsX20 : List Cond := u_ws RX2 TX2 37
set_option maxRecDepth 100000 in
theorem nmX2 : ∀ a, a < 37 → ∀ b, b < 37 → a ≠ b → (TX2 a).2.1 ≠ (TX2 b).2.1 := by decide +kernel
set_option maxRecDepth 100000 in
theorem tyX2_ok : ∀ k, k < 37 → parseFieldDescriptor (TX2 k).2.2.1 = some (tyX2 k) := by decide +kernel
abbrev cX2_init : ByteArray := prog_19_method_1_code
def yX2_init : MethodName := ⟨RX2, "<init>", "()V"⟩
def dkwX2_init_8 : List UInt8 := [180, 0, 7, 42, 180, 0, 13, 184, 0, 67, 177]
abbrev dktX2_init_8 : List UInt8 := dkwX2_init_8 ++ []
def dkwX2_init_7 : List UInt8 := [180, 0, 7, 7, 2, 79, 42, 180, 0, 7, 16, 12, 8, 79, 42, 180, 0, 7, 16, 17, 2, 79, 42]
abbrev dktX2_init_7 : List UInt8 := dkwX2_init_7 ++ dktX2_init_8
def dkwX2_init_6 : List UInt8 := [42, 16, 8, 188, 10, 181, 0, 64, 42, 180, 0, 7, 4, 5, 79, 42, 180, 0, 7, 5, 16, 59, 79, 42]
abbrev dktX2_init_6 : List UInt8 := dkwX2_init_6 ++ dktX2_init_7
def dkwX2_init_5 : List UInt8 := [42, 16, 8, 188, 10, 181, 0, 55, 42, 16, 8, 188, 10, 181, 0, 58, 42, 16, 8, 188, 10, 181, 0, 61]
abbrev dktX2_init_5 : List UInt8 := dkwX2_init_5 ++ dktX2_init_6
def dkwX2_init_4 : List UInt8 := [17, 4, 176, 188, 10, 181, 0, 46, 42, 16, 8, 188, 10, 181, 0, 49, 42, 16, 8, 188, 10, 181, 0, 52]
abbrev dktX2_init_4 : List UInt8 := dkwX2_init_4 ++ dktX2_init_5
def dkwX2_init_3 : List UInt8 := [188, 11, 181, 0, 35, 42, 17, 1, 74, 188, 4, 181, 0, 39, 42, 16, 18, 188, 10, 181, 0, 43, 42]
abbrev dktX2_init_3 : List UInt8 := dkwX2_init_3 ++ dktX2_init_4
def dkwX2_init_2 : List UInt8 := [181, 0, 26, 42, 17, 0, 160, 188, 10, 181, 0, 29, 42, 16, 8, 188, 10, 181, 0, 32, 42, 17, 1, 74]
abbrev dktX2_init_2 : List UInt8 := dkwX2_init_2 ++ dktX2_init_3
def dkwX2_init_1 : List UInt8 := [17, 11, 196, 188, 10, 181, 0, 16, 42, 17, 1, 44, 188, 10, 181, 0, 19, 42, 2, 181, 0, 22, 42, 2]
abbrev dktX2_init_1 : List UInt8 := dkwX2_init_1 ++ dktX2_init_2
def dkwX2_init_0 : List UInt8 := [42, 183, 0, 1, 42, 17, 38, 106, 188, 10, 181, 0, 7, 42, 17, 38, 106, 188, 10, 181, 0, 13, 42]
abbrev dktX2_init_0 : List UInt8 := dkwX2_init_0 ++ dktX2_init_1
theorem dksX2_init_0 : cX2_init.data.toList.drop 0 = dktX2_init_0 := by decide +kernel
theorem dksX2_init_1 : cX2_init.data.toList.drop 23 = dktX2_init_1 := dk_seg dksX2_init_0 23 rfl rfl
theorem dksX2_init_2 : cX2_init.data.toList.drop 47 = dktX2_init_2 := dk_seg dksX2_init_1 24 rfl rfl
theorem dksX2_init_3 : cX2_init.data.toList.drop 71 = dktX2_init_3 := dk_seg dksX2_init_2 24 rfl rfl
theorem dksX2_init_4 : cX2_init.data.toList.drop 94 = dktX2_init_4 := dk_seg dksX2_init_3 23 rfl rfl
theorem dksX2_init_5 : cX2_init.data.toList.drop 118 = dktX2_init_5 := dk_seg dksX2_init_4 24 rfl rfl
theorem dksX2_init_6 : cX2_init.data.toList.drop 142 = dktX2_init_6 := dk_seg dksX2_init_5 24 rfl rfl
theorem dksX2_init_7 : cX2_init.data.toList.drop 166 = dktX2_init_7 := dk_seg dksX2_init_6 24 rfl rfl
theorem dksX2_init_8 : cX2_init.data.toList.drop 189 = dktX2_init_8 := dk_seg dksX2_init_7 23 rfl rfl
theorem dX2_init_0 : decode cX2_init 0 = .ok (.aload_n 0, 1) := dk_42 (dk_at dksX2_init_0 0 rfl rfl)
theorem dX2_init_1 : decode cX2_init 1 = .ok (.invokespecial 1, 3) := dk_183 0 1 (dk_at dksX2_init_0 1 rfl rfl)
theorem dX2_init_4 : decode cX2_init 4 = .ok (.aload_n 0, 1) := dk_42 (dk_at dksX2_init_0 4 rfl rfl)
theorem dX2_init_5 : decode cX2_init 5 = .ok (.sipush 9834, 3) := dk_17 38 106 (dk_at dksX2_init_0 5 rfl rfl)
theorem dX2_init_8 : decode cX2_init 8 = .ok (.newarray .int, 2) := dk_188_10 (dk_at dksX2_init_0 8 rfl rfl)
theorem dX2_init_10 : decode cX2_init 10 = .ok (.putfield 7, 3) := dk_181 0 7 (dk_at dksX2_init_0 10 rfl rfl)
theorem dX2_init_13 : decode cX2_init 13 = .ok (.aload_n 0, 1) := dk_42 (dk_at dksX2_init_0 13 rfl rfl)
theorem dX2_init_14 : decode cX2_init 14 = .ok (.sipush 9834, 3) := dk_17 38 106 (dk_at dksX2_init_0 14 rfl rfl)
theorem dX2_init_17 : decode cX2_init 17 = .ok (.newarray .int, 2) := dk_188_10 (dk_at dksX2_init_0 17 rfl rfl)
theorem dX2_init_19 : decode cX2_init 19 = .ok (.putfield 13, 3) := dk_181 0 13 (dk_at dksX2_init_0 19 rfl rfl)
theorem dX2_init_22 : decode cX2_init 22 = .ok (.aload_n 0, 1) := dk_42 (dk_at dksX2_init_0 22 rfl rfl)
theorem dX2_init_23 : decode cX2_init 23 = .ok (.sipush 3012, 3) := dk_17 11 196 (dk_at dksX2_init_1 0 rfl rfl)
theorem dX2_init_26 : decode cX2_init 26 = .ok (.newarray .int, 2) := dk_188_10 (dk_at dksX2_init_1 3 rfl rfl)
theorem dX2_init_28 : decode cX2_init 28 = .ok (.putfield 16, 3) := dk_181 0 16 (dk_at dksX2_init_1 5 rfl rfl)
theorem dX2_init_31 : decode cX2_init 31 = .ok (.aload_n 0, 1) := dk_42 (dk_at dksX2_init_1 8 rfl rfl)
theorem dX2_init_32 : decode cX2_init 32 = .ok (.sipush 300, 3) := dk_17 1 44 (dk_at dksX2_init_1 9 rfl rfl)
theorem dX2_init_35 : decode cX2_init 35 = .ok (.newarray .int, 2) := dk_188_10 (dk_at dksX2_init_1 12 rfl rfl)
theorem dX2_init_37 : decode cX2_init 37 = .ok (.putfield 19, 3) := dk_181 0 19 (dk_at dksX2_init_1 14 rfl rfl)
theorem dX2_init_40 : decode cX2_init 40 = .ok (.aload_n 0, 1) := dk_42 (dk_at dksX2_init_1 17 rfl rfl)
theorem dX2_init_41 : decode cX2_init 41 = .ok (.iconst (-1), 1) := dk_2 (dk_at dksX2_init_1 18 rfl rfl)
theorem dX2_init_42 : decode cX2_init 42 = .ok (.putfield 22, 3) := dk_181 0 22 (dk_at dksX2_init_1 19 rfl rfl)
theorem dX2_init_45 : decode cX2_init 45 = .ok (.aload_n 0, 1) := dk_42 (dk_at dksX2_init_1 22 rfl rfl)
theorem dX2_init_46 : decode cX2_init 46 = .ok (.iconst (-1), 1) := dk_2 (dk_at dksX2_init_1 23 rfl rfl)
theorem dX2_init_47 : decode cX2_init 47 = .ok (.putfield 26, 3) := dk_181 0 26 (dk_at dksX2_init_2 0 rfl rfl)
theorem dX2_init_50 : decode cX2_init 50 = .ok (.aload_n 0, 1) := dk_42 (dk_at dksX2_init_2 3 rfl rfl)
theorem dX2_init_51 : decode cX2_init 51 = .ok (.sipush 160, 3) := dk_17 0 160 (dk_at dksX2_init_2 4 rfl rfl)
theorem dX2_init_54 : decode cX2_init 54 = .ok (.newarray .int, 2) := dk_188_10 (dk_at dksX2_init_2 7 rfl rfl)
theorem dX2_init_56 : decode cX2_init 56 = .ok (.putfield 29, 3) := dk_181 0 29 (dk_at dksX2_init_2 9 rfl rfl)
theorem dX2_init_59 : decode cX2_init 59 = .ok (.aload_n 0, 1) := dk_42 (dk_at dksX2_init_2 12 rfl rfl)
theorem dX2_init_60 : decode cX2_init 60 = .ok (.bipush 8, 2) := dk_16 8 (dk_at dksX2_init_2 13 rfl rfl)
theorem dX2_init_62 : decode cX2_init 62 = .ok (.newarray .int, 2) := dk_188_10 (dk_at dksX2_init_2 15 rfl rfl)
theorem dX2_init_64 : decode cX2_init 64 = .ok (.putfield 32, 3) := dk_181 0 32 (dk_at dksX2_init_2 17 rfl rfl)
theorem dX2_init_67 : decode cX2_init 67 = .ok (.aload_n 0, 1) := dk_42 (dk_at dksX2_init_2 20 rfl rfl)
theorem dX2_init_68 : decode cX2_init 68 = .ok (.sipush 330, 3) := dk_17 1 74 (dk_at dksX2_init_2 21 rfl rfl)
theorem dX2_init_71 : decode cX2_init 71 = .ok (.newarray .long, 2) := dk_188_11 (dk_at dksX2_init_3 0 rfl rfl)
theorem dX2_init_73 : decode cX2_init 73 = .ok (.putfield 35, 3) := dk_181 0 35 (dk_at dksX2_init_3 2 rfl rfl)
theorem dX2_init_76 : decode cX2_init 76 = .ok (.aload_n 0, 1) := dk_42 (dk_at dksX2_init_3 5 rfl rfl)
theorem dX2_init_77 : decode cX2_init 77 = .ok (.sipush 330, 3) := dk_17 1 74 (dk_at dksX2_init_3 6 rfl rfl)
theorem dX2_init_80 : decode cX2_init 80 = .ok (.newarray .boolean, 2) := dk_188_4 (dk_at dksX2_init_3 9 rfl rfl)
theorem dX2_init_82 : decode cX2_init 82 = .ok (.putfield 39, 3) := dk_181 0 39 (dk_at dksX2_init_3 11 rfl rfl)
theorem dX2_init_85 : decode cX2_init 85 = .ok (.aload_n 0, 1) := dk_42 (dk_at dksX2_init_3 14 rfl rfl)
theorem dX2_init_86 : decode cX2_init 86 = .ok (.bipush 18, 2) := dk_16 18 (dk_at dksX2_init_3 15 rfl rfl)
theorem dX2_init_88 : decode cX2_init 88 = .ok (.newarray .int, 2) := dk_188_10 (dk_at dksX2_init_3 17 rfl rfl)
theorem dX2_init_90 : decode cX2_init 90 = .ok (.putfield 43, 3) := dk_181 0 43 (dk_at dksX2_init_3 19 rfl rfl)
theorem dX2_init_93 : decode cX2_init 93 = .ok (.aload_n 0, 1) := dk_42 (dk_at dksX2_init_3 22 rfl rfl)
theorem dX2_init_94 : decode cX2_init 94 = .ok (.sipush 1200, 3) := dk_17 4 176 (dk_at dksX2_init_4 0 rfl rfl)
theorem dX2_init_97 : decode cX2_init 97 = .ok (.newarray .int, 2) := dk_188_10 (dk_at dksX2_init_4 3 rfl rfl)
theorem dX2_init_99 : decode cX2_init 99 = .ok (.putfield 46, 3) := dk_181 0 46 (dk_at dksX2_init_4 5 rfl rfl)
theorem dX2_init_102 : decode cX2_init 102 = .ok (.aload_n 0, 1) := dk_42 (dk_at dksX2_init_4 8 rfl rfl)
theorem dX2_init_103 : decode cX2_init 103 = .ok (.bipush 8, 2) := dk_16 8 (dk_at dksX2_init_4 9 rfl rfl)
theorem dX2_init_105 : decode cX2_init 105 = .ok (.newarray .int, 2) := dk_188_10 (dk_at dksX2_init_4 11 rfl rfl)
theorem dX2_init_107 : decode cX2_init 107 = .ok (.putfield 49, 3) := dk_181 0 49 (dk_at dksX2_init_4 13 rfl rfl)
theorem dX2_init_110 : decode cX2_init 110 = .ok (.aload_n 0, 1) := dk_42 (dk_at dksX2_init_4 16 rfl rfl)
theorem dX2_init_111 : decode cX2_init 111 = .ok (.bipush 8, 2) := dk_16 8 (dk_at dksX2_init_4 17 rfl rfl)
theorem dX2_init_113 : decode cX2_init 113 = .ok (.newarray .int, 2) := dk_188_10 (dk_at dksX2_init_4 19 rfl rfl)
theorem dX2_init_115 : decode cX2_init 115 = .ok (.putfield 52, 3) := dk_181 0 52 (dk_at dksX2_init_4 21 rfl rfl)
theorem dX2_init_118 : decode cX2_init 118 = .ok (.aload_n 0, 1) := dk_42 (dk_at dksX2_init_5 0 rfl rfl)
theorem dX2_init_119 : decode cX2_init 119 = .ok (.bipush 8, 2) := dk_16 8 (dk_at dksX2_init_5 1 rfl rfl)
theorem dX2_init_121 : decode cX2_init 121 = .ok (.newarray .int, 2) := dk_188_10 (dk_at dksX2_init_5 3 rfl rfl)
theorem dX2_init_123 : decode cX2_init 123 = .ok (.putfield 55, 3) := dk_181 0 55 (dk_at dksX2_init_5 5 rfl rfl)
theorem dX2_init_126 : decode cX2_init 126 = .ok (.aload_n 0, 1) := dk_42 (dk_at dksX2_init_5 8 rfl rfl)
theorem dX2_init_127 : decode cX2_init 127 = .ok (.bipush 8, 2) := dk_16 8 (dk_at dksX2_init_5 9 rfl rfl)
theorem dX2_init_129 : decode cX2_init 129 = .ok (.newarray .int, 2) := dk_188_10 (dk_at dksX2_init_5 11 rfl rfl)
theorem dX2_init_131 : decode cX2_init 131 = .ok (.putfield 58, 3) := dk_181 0 58 (dk_at dksX2_init_5 13 rfl rfl)
theorem dX2_init_134 : decode cX2_init 134 = .ok (.aload_n 0, 1) := dk_42 (dk_at dksX2_init_5 16 rfl rfl)
theorem dX2_init_135 : decode cX2_init 135 = .ok (.bipush 8, 2) := dk_16 8 (dk_at dksX2_init_5 17 rfl rfl)
theorem dX2_init_137 : decode cX2_init 137 = .ok (.newarray .int, 2) := dk_188_10 (dk_at dksX2_init_5 19 rfl rfl)
theorem dX2_init_139 : decode cX2_init 139 = .ok (.putfield 61, 3) := dk_181 0 61 (dk_at dksX2_init_5 21 rfl rfl)
theorem dX2_init_142 : decode cX2_init 142 = .ok (.aload_n 0, 1) := dk_42 (dk_at dksX2_init_6 0 rfl rfl)
theorem dX2_init_143 : decode cX2_init 143 = .ok (.bipush 8, 2) := dk_16 8 (dk_at dksX2_init_6 1 rfl rfl)
theorem dX2_init_145 : decode cX2_init 145 = .ok (.newarray .int, 2) := dk_188_10 (dk_at dksX2_init_6 3 rfl rfl)
theorem dX2_init_147 : decode cX2_init 147 = .ok (.putfield 64, 3) := dk_181 0 64 (dk_at dksX2_init_6 5 rfl rfl)
theorem dX2_init_150 : decode cX2_init 150 = .ok (.aload_n 0, 1) := dk_42 (dk_at dksX2_init_6 8 rfl rfl)
theorem dX2_init_151 : decode cX2_init 151 = .ok (.getfield 7, 3) := dk_180 0 7 (dk_at dksX2_init_6 9 rfl rfl)
theorem dX2_init_154 : decode cX2_init 154 = .ok (.iconst 1, 1) := dk_4 (dk_at dksX2_init_6 12 rfl rfl)
theorem dX2_init_155 : decode cX2_init 155 = .ok (.iconst 2, 1) := dk_5 (dk_at dksX2_init_6 13 rfl rfl)
theorem dX2_init_156 : decode cX2_init 156 = .ok (.iastore, 1) := dk_79 (dk_at dksX2_init_6 14 rfl rfl)
theorem dX2_init_157 : decode cX2_init 157 = .ok (.aload_n 0, 1) := dk_42 (dk_at dksX2_init_6 15 rfl rfl)
theorem dX2_init_158 : decode cX2_init 158 = .ok (.getfield 7, 3) := dk_180 0 7 (dk_at dksX2_init_6 16 rfl rfl)
theorem dX2_init_161 : decode cX2_init 161 = .ok (.iconst 2, 1) := dk_5 (dk_at dksX2_init_6 19 rfl rfl)
theorem dX2_init_162 : decode cX2_init 162 = .ok (.bipush 59, 2) := dk_16 59 (dk_at dksX2_init_6 20 rfl rfl)
theorem dX2_init_164 : decode cX2_init 164 = .ok (.iastore, 1) := dk_79 (dk_at dksX2_init_6 22 rfl rfl)
theorem dX2_init_165 : decode cX2_init 165 = .ok (.aload_n 0, 1) := dk_42 (dk_at dksX2_init_6 23 rfl rfl)
theorem dX2_init_166 : decode cX2_init 166 = .ok (.getfield 7, 3) := dk_180 0 7 (dk_at dksX2_init_7 0 rfl rfl)
theorem dX2_init_169 : decode cX2_init 169 = .ok (.iconst 4, 1) := dk_7 (dk_at dksX2_init_7 3 rfl rfl)
theorem dX2_init_170 : decode cX2_init 170 = .ok (.iconst (-1), 1) := dk_2 (dk_at dksX2_init_7 4 rfl rfl)
theorem dX2_init_171 : decode cX2_init 171 = .ok (.iastore, 1) := dk_79 (dk_at dksX2_init_7 5 rfl rfl)
theorem dX2_init_172 : decode cX2_init 172 = .ok (.aload_n 0, 1) := dk_42 (dk_at dksX2_init_7 6 rfl rfl)
theorem dX2_init_173 : decode cX2_init 173 = .ok (.getfield 7, 3) := dk_180 0 7 (dk_at dksX2_init_7 7 rfl rfl)
theorem dX2_init_176 : decode cX2_init 176 = .ok (.bipush 12, 2) := dk_16 12 (dk_at dksX2_init_7 10 rfl rfl)
theorem dX2_init_178 : decode cX2_init 178 = .ok (.iconst 5, 1) := dk_8 (dk_at dksX2_init_7 12 rfl rfl)
theorem dX2_init_179 : decode cX2_init 179 = .ok (.iastore, 1) := dk_79 (dk_at dksX2_init_7 13 rfl rfl)
theorem dX2_init_180 : decode cX2_init 180 = .ok (.aload_n 0, 1) := dk_42 (dk_at dksX2_init_7 14 rfl rfl)
theorem dX2_init_181 : decode cX2_init 181 = .ok (.getfield 7, 3) := dk_180 0 7 (dk_at dksX2_init_7 15 rfl rfl)
theorem dX2_init_184 : decode cX2_init 184 = .ok (.bipush 17, 2) := dk_16 17 (dk_at dksX2_init_7 18 rfl rfl)
theorem dX2_init_186 : decode cX2_init 186 = .ok (.iconst (-1), 1) := dk_2 (dk_at dksX2_init_7 20 rfl rfl)
theorem dX2_init_187 : decode cX2_init 187 = .ok (.iastore, 1) := dk_79 (dk_at dksX2_init_7 21 rfl rfl)
theorem dX2_init_188 : decode cX2_init 188 = .ok (.aload_n 0, 1) := dk_42 (dk_at dksX2_init_7 22 rfl rfl)
theorem dX2_init_189 : decode cX2_init 189 = .ok (.getfield 7, 3) := dk_180 0 7 (dk_at dksX2_init_8 0 rfl rfl)
theorem dX2_init_192 : decode cX2_init 192 = .ok (.aload_n 0, 1) := dk_42 (dk_at dksX2_init_8 3 rfl rfl)
theorem dX2_init_193 : decode cX2_init 193 = .ok (.getfield 13, 3) := dk_180 0 13 (dk_at dksX2_init_8 4 rfl rfl)
theorem dX2_init_196 : decode cX2_init 196 = .ok (.invokestatic 67, 3) := dk_184 0 67 (dk_at dksX2_init_8 7 rfl rfl)
theorem dX2_init_199 : decode cX2_init 199 = .ok (.return_, 1) := dk_177 (dk_at dksX2_init_8 10 rfl rfl)
abbrev cX2_copy : ByteArray := prog_19_method_2_code
def yX2_copy : MethodName := ⟨RX2, "copy", "([I[I)V"⟩
def dkwX2_copy_0 : List UInt8 := [3, 61, 28, 17, 38, 106, 162, 0, 15, 43, 28, 42, 28, 46, 79, 132, 2, 1, 167, 255, 240, 177]
abbrev dktX2_copy_0 : List UInt8 := dkwX2_copy_0 ++ []
theorem dksX2_copy_0 : cX2_copy.data.toList.drop 0 = dktX2_copy_0 := by decide +kernel
theorem dX2_copy_0 : decode cX2_copy 0 = .ok (.iconst 0, 1) := dk_3 (dk_at dksX2_copy_0 0 rfl rfl)
theorem dX2_copy_1 : decode cX2_copy 1 = .ok (.istore_n 2, 1) := dk_61 (dk_at dksX2_copy_0 1 rfl rfl)
theorem dX2_copy_2 : decode cX2_copy 2 = .ok (.iload_n 2, 1) := dk_28 (dk_at dksX2_copy_0 2 rfl rfl)
theorem dX2_copy_3 : decode cX2_copy 3 = .ok (.sipush 9834, 3) := dk_17 38 106 (dk_at dksX2_copy_0 3 rfl rfl)
theorem dX2_copy_6 : decode cX2_copy 6 = .ok (.if_icmp .ge 15, 3) := dk_162 0 15 (dk_at dksX2_copy_0 6 rfl rfl)
theorem dX2_copy_9 : decode cX2_copy 9 = .ok (.aload_n 1, 1) := dk_43 (dk_at dksX2_copy_0 9 rfl rfl)
theorem dX2_copy_10 : decode cX2_copy 10 = .ok (.iload_n 2, 1) := dk_28 (dk_at dksX2_copy_0 10 rfl rfl)
theorem dX2_copy_11 : decode cX2_copy 11 = .ok (.aload_n 0, 1) := dk_42 (dk_at dksX2_copy_0 11 rfl rfl)
theorem dX2_copy_12 : decode cX2_copy 12 = .ok (.iload_n 2, 1) := dk_28 (dk_at dksX2_copy_0 12 rfl rfl)
theorem dX2_copy_13 : decode cX2_copy 13 = .ok (.iaload, 1) := dk_46 (dk_at dksX2_copy_0 13 rfl rfl)
theorem dX2_copy_14 : decode cX2_copy 14 = .ok (.iastore, 1) := dk_79 (dk_at dksX2_copy_0 14 rfl rfl)
theorem dX2_copy_15 : decode cX2_copy 15 = .ok (.iinc 2 1, 3) := dk_132 2 1 (dk_at dksX2_copy_0 15 rfl rfl)
theorem dX2_copy_18 : decode cX2_copy 18 = .ok (.goto (-16), 3) := dk_167 255 240 (dk_at dksX2_copy_0 18 rfl rfl)
theorem dX2_copy_21 : decode cX2_copy 21 = .ok (.return_, 1) := dk_177 (dk_at dksX2_copy_0 21 rfl rfl)
abbrev cX2_order : ByteArray := prog_19_method_10_code
def yX2_order : MethodName := ⟨RX2, "order", "(IIIII)I"⟩
def dkwX2_order_6 : List UInt8 := [180, 0, 7, 3, 92, 46, 4, 96, 79, 42, 180, 0, 7, 3, 46, 4, 100, 172]
abbrev dktX2_order_6 : List UInt8 := dkwX2_order_6 ++ []
def dkwX2_order_5 : List UInt8 := [42, 180, 0, 7, 21, 6, 7, 96, 21, 5, 79, 42, 180, 0, 7, 21, 6, 8, 96, 3, 79, 42]
abbrev dktX2_order_5 : List UInt8 := dkwX2_order_5 ++ dktX2_order_6
def dkwX2_order_4 : List UInt8 := [96, 28, 79, 42, 180, 0, 7, 21, 6, 5, 96, 29, 79, 42, 180, 0, 7, 21, 6, 6, 96, 21, 4, 79]
abbrev dktX2_order_4 : List UInt8 := dkwX2_order_4 ++ dktX2_order_5
def dkwX2_order_3 : List UInt8 := [180, 0, 7, 3, 46, 104, 96, 54, 6, 42, 180, 0, 7, 21, 6, 27, 79, 42, 180, 0, 7, 21, 6, 4]
abbrev dktX2_order_3 : List UInt8 := dkwX2_order_3 ++ dktX2_order_4
def dkwX2_order_2 : List UInt8 := [184, 0, 71, 153, 0, 14, 42, 180, 0, 7, 3, 46, 16, 8, 160, 0, 5, 2, 172, 16, 20, 16, 6, 42]
abbrev dktX2_order_2 : List UInt8 := dkwX2_order_2 ++ dktX2_order_3
def dkwX2_order_1 : List UInt8 := [17, 3, 231, 184, 0, 71, 153, 0, 35, 21, 4, 3, 16, 9, 184, 0, 71, 153, 0, 24, 21, 5, 3, 4]
abbrev dktX2_order_1 : List UInt8 := dkwX2_order_1 ++ dktX2_order_2
def dkwX2_order_0 : List UInt8 := [27, 4, 16, 99, 184, 0, 71, 153, 0, 56, 28, 3, 16, 60, 184, 0, 71, 153, 0, 46, 29, 3]
abbrev dktX2_order_0 : List UInt8 := dkwX2_order_0 ++ dktX2_order_1
theorem dksX2_order_0 : cX2_order.data.toList.drop 0 = dktX2_order_0 := by decide +kernel
theorem dksX2_order_1 : cX2_order.data.toList.drop 22 = dktX2_order_1 := dk_seg dksX2_order_0 22 rfl rfl
theorem dksX2_order_2 : cX2_order.data.toList.drop 46 = dktX2_order_2 := dk_seg dksX2_order_1 24 rfl rfl
theorem dksX2_order_3 : cX2_order.data.toList.drop 70 = dktX2_order_3 := dk_seg dksX2_order_2 24 rfl rfl
theorem dksX2_order_4 : cX2_order.data.toList.drop 94 = dktX2_order_4 := dk_seg dksX2_order_3 24 rfl rfl
theorem dksX2_order_5 : cX2_order.data.toList.drop 118 = dktX2_order_5 := dk_seg dksX2_order_4 24 rfl rfl
theorem dksX2_order_6 : cX2_order.data.toList.drop 140 = dktX2_order_6 := dk_seg dksX2_order_5 22 rfl rfl
theorem dX2_order_0 : decode cX2_order 0 = .ok (.iload_n 1, 1) := dk_27 (dk_at dksX2_order_0 0 rfl rfl)
theorem dX2_order_1 : decode cX2_order 1 = .ok (.iconst 1, 1) := dk_4 (dk_at dksX2_order_0 1 rfl rfl)
theorem dX2_order_2 : decode cX2_order 2 = .ok (.bipush 99, 2) := dk_16 99 (dk_at dksX2_order_0 2 rfl rfl)
theorem dX2_order_4 : decode cX2_order 4 = .ok (.invokestatic 71, 3) := dk_184 0 71 (dk_at dksX2_order_0 4 rfl rfl)
theorem dX2_order_7 : decode cX2_order 7 = .ok (.ifCond .eq 56, 3) := dk_153 0 56 (dk_at dksX2_order_0 7 rfl rfl)
theorem dX2_order_10 : decode cX2_order 10 = .ok (.iload_n 2, 1) := dk_28 (dk_at dksX2_order_0 10 rfl rfl)
theorem dX2_order_11 : decode cX2_order 11 = .ok (.iconst 0, 1) := dk_3 (dk_at dksX2_order_0 11 rfl rfl)
theorem dX2_order_12 : decode cX2_order 12 = .ok (.bipush 60, 2) := dk_16 60 (dk_at dksX2_order_0 12 rfl rfl)
theorem dX2_order_14 : decode cX2_order 14 = .ok (.invokestatic 71, 3) := dk_184 0 71 (dk_at dksX2_order_0 14 rfl rfl)
theorem dX2_order_17 : decode cX2_order 17 = .ok (.ifCond .eq 46, 3) := dk_153 0 46 (dk_at dksX2_order_0 17 rfl rfl)
theorem dX2_order_20 : decode cX2_order 20 = .ok (.iload_n 3, 1) := dk_29 (dk_at dksX2_order_0 20 rfl rfl)
theorem dX2_order_21 : decode cX2_order 21 = .ok (.iconst 0, 1) := dk_3 (dk_at dksX2_order_0 21 rfl rfl)
theorem dX2_order_22 : decode cX2_order 22 = .ok (.sipush 999, 3) := dk_17 3 231 (dk_at dksX2_order_1 0 rfl rfl)
theorem dX2_order_25 : decode cX2_order 25 = .ok (.invokestatic 71, 3) := dk_184 0 71 (dk_at dksX2_order_1 3 rfl rfl)
theorem dX2_order_28 : decode cX2_order 28 = .ok (.ifCond .eq 35, 3) := dk_153 0 35 (dk_at dksX2_order_1 6 rfl rfl)
theorem dX2_order_31 : decode cX2_order 31 = .ok (.iload 4, 2) := dk_21 4 (dk_at dksX2_order_1 9 rfl rfl)
theorem dX2_order_33 : decode cX2_order 33 = .ok (.iconst 0, 1) := dk_3 (dk_at dksX2_order_1 11 rfl rfl)
theorem dX2_order_34 : decode cX2_order 34 = .ok (.bipush 9, 2) := dk_16 9 (dk_at dksX2_order_1 12 rfl rfl)
theorem dX2_order_36 : decode cX2_order 36 = .ok (.invokestatic 71, 3) := dk_184 0 71 (dk_at dksX2_order_1 14 rfl rfl)
theorem dX2_order_39 : decode cX2_order 39 = .ok (.ifCond .eq 24, 3) := dk_153 0 24 (dk_at dksX2_order_1 17 rfl rfl)
theorem dX2_order_42 : decode cX2_order 42 = .ok (.iload 5, 2) := dk_21 5 (dk_at dksX2_order_1 20 rfl rfl)
theorem dX2_order_44 : decode cX2_order 44 = .ok (.iconst 0, 1) := dk_3 (dk_at dksX2_order_1 22 rfl rfl)
theorem dX2_order_45 : decode cX2_order 45 = .ok (.iconst 1, 1) := dk_4 (dk_at dksX2_order_1 23 rfl rfl)
theorem dX2_order_46 : decode cX2_order 46 = .ok (.invokestatic 71, 3) := dk_184 0 71 (dk_at dksX2_order_2 0 rfl rfl)
theorem dX2_order_49 : decode cX2_order 49 = .ok (.ifCond .eq 14, 3) := dk_153 0 14 (dk_at dksX2_order_2 3 rfl rfl)
theorem dX2_order_52 : decode cX2_order 52 = .ok (.aload_n 0, 1) := dk_42 (dk_at dksX2_order_2 6 rfl rfl)
theorem dX2_order_53 : decode cX2_order 53 = .ok (.getfield 7, 3) := dk_180 0 7 (dk_at dksX2_order_2 7 rfl rfl)
theorem dX2_order_56 : decode cX2_order 56 = .ok (.iconst 0, 1) := dk_3 (dk_at dksX2_order_2 10 rfl rfl)
theorem dX2_order_57 : decode cX2_order 57 = .ok (.iaload, 1) := dk_46 (dk_at dksX2_order_2 11 rfl rfl)
theorem dX2_order_58 : decode cX2_order 58 = .ok (.bipush 8, 2) := dk_16 8 (dk_at dksX2_order_2 12 rfl rfl)
theorem dX2_order_60 : decode cX2_order 60 = .ok (.if_icmp .ne 5, 3) := dk_160 0 5 (dk_at dksX2_order_2 14 rfl rfl)
theorem dX2_order_63 : decode cX2_order 63 = .ok (.iconst (-1), 1) := dk_2 (dk_at dksX2_order_2 17 rfl rfl)
theorem dX2_order_64 : decode cX2_order 64 = .ok (.ireturn, 1) := dk_172 (dk_at dksX2_order_2 18 rfl rfl)
theorem dX2_order_65 : decode cX2_order 65 = .ok (.bipush 20, 2) := dk_16 20 (dk_at dksX2_order_2 19 rfl rfl)
theorem dX2_order_67 : decode cX2_order 67 = .ok (.bipush 6, 2) := dk_16 6 (dk_at dksX2_order_2 21 rfl rfl)
theorem dX2_order_69 : decode cX2_order 69 = .ok (.aload_n 0, 1) := dk_42 (dk_at dksX2_order_2 23 rfl rfl)
theorem dX2_order_70 : decode cX2_order 70 = .ok (.getfield 7, 3) := dk_180 0 7 (dk_at dksX2_order_3 0 rfl rfl)
theorem dX2_order_73 : decode cX2_order 73 = .ok (.iconst 0, 1) := dk_3 (dk_at dksX2_order_3 3 rfl rfl)
theorem dX2_order_74 : decode cX2_order 74 = .ok (.iaload, 1) := dk_46 (dk_at dksX2_order_3 4 rfl rfl)
theorem dX2_order_75 : decode cX2_order 75 = .ok (.imul, 1) := dk_104 (dk_at dksX2_order_3 5 rfl rfl)
theorem dX2_order_76 : decode cX2_order 76 = .ok (.iadd, 1) := dk_96 (dk_at dksX2_order_3 6 rfl rfl)
theorem dX2_order_77 : decode cX2_order 77 = .ok (.istore 6, 2) := dk_54 6 (dk_at dksX2_order_3 7 rfl rfl)
theorem dX2_order_79 : decode cX2_order 79 = .ok (.aload_n 0, 1) := dk_42 (dk_at dksX2_order_3 9 rfl rfl)
theorem dX2_order_80 : decode cX2_order 80 = .ok (.getfield 7, 3) := dk_180 0 7 (dk_at dksX2_order_3 10 rfl rfl)
theorem dX2_order_83 : decode cX2_order 83 = .ok (.iload 6, 2) := dk_21 6 (dk_at dksX2_order_3 13 rfl rfl)
theorem dX2_order_85 : decode cX2_order 85 = .ok (.iload_n 1, 1) := dk_27 (dk_at dksX2_order_3 15 rfl rfl)
theorem dX2_order_86 : decode cX2_order 86 = .ok (.iastore, 1) := dk_79 (dk_at dksX2_order_3 16 rfl rfl)
theorem dX2_order_87 : decode cX2_order 87 = .ok (.aload_n 0, 1) := dk_42 (dk_at dksX2_order_3 17 rfl rfl)
theorem dX2_order_88 : decode cX2_order 88 = .ok (.getfield 7, 3) := dk_180 0 7 (dk_at dksX2_order_3 18 rfl rfl)
theorem dX2_order_91 : decode cX2_order 91 = .ok (.iload 6, 2) := dk_21 6 (dk_at dksX2_order_3 21 rfl rfl)
theorem dX2_order_93 : decode cX2_order 93 = .ok (.iconst 1, 1) := dk_4 (dk_at dksX2_order_3 23 rfl rfl)
theorem dX2_order_94 : decode cX2_order 94 = .ok (.iadd, 1) := dk_96 (dk_at dksX2_order_4 0 rfl rfl)
theorem dX2_order_95 : decode cX2_order 95 = .ok (.iload_n 2, 1) := dk_28 (dk_at dksX2_order_4 1 rfl rfl)
theorem dX2_order_96 : decode cX2_order 96 = .ok (.iastore, 1) := dk_79 (dk_at dksX2_order_4 2 rfl rfl)
theorem dX2_order_97 : decode cX2_order 97 = .ok (.aload_n 0, 1) := dk_42 (dk_at dksX2_order_4 3 rfl rfl)
theorem dX2_order_98 : decode cX2_order 98 = .ok (.getfield 7, 3) := dk_180 0 7 (dk_at dksX2_order_4 4 rfl rfl)
theorem dX2_order_101 : decode cX2_order 101 = .ok (.iload 6, 2) := dk_21 6 (dk_at dksX2_order_4 7 rfl rfl)
theorem dX2_order_103 : decode cX2_order 103 = .ok (.iconst 2, 1) := dk_5 (dk_at dksX2_order_4 9 rfl rfl)
theorem dX2_order_104 : decode cX2_order 104 = .ok (.iadd, 1) := dk_96 (dk_at dksX2_order_4 10 rfl rfl)
theorem dX2_order_105 : decode cX2_order 105 = .ok (.iload_n 3, 1) := dk_29 (dk_at dksX2_order_4 11 rfl rfl)
theorem dX2_order_106 : decode cX2_order 106 = .ok (.iastore, 1) := dk_79 (dk_at dksX2_order_4 12 rfl rfl)
theorem dX2_order_107 : decode cX2_order 107 = .ok (.aload_n 0, 1) := dk_42 (dk_at dksX2_order_4 13 rfl rfl)
theorem dX2_order_108 : decode cX2_order 108 = .ok (.getfield 7, 3) := dk_180 0 7 (dk_at dksX2_order_4 14 rfl rfl)
theorem dX2_order_111 : decode cX2_order 111 = .ok (.iload 6, 2) := dk_21 6 (dk_at dksX2_order_4 17 rfl rfl)
theorem dX2_order_113 : decode cX2_order 113 = .ok (.iconst 3, 1) := dk_6 (dk_at dksX2_order_4 19 rfl rfl)
theorem dX2_order_114 : decode cX2_order 114 = .ok (.iadd, 1) := dk_96 (dk_at dksX2_order_4 20 rfl rfl)
theorem dX2_order_115 : decode cX2_order 115 = .ok (.iload 4, 2) := dk_21 4 (dk_at dksX2_order_4 21 rfl rfl)
theorem dX2_order_117 : decode cX2_order 117 = .ok (.iastore, 1) := dk_79 (dk_at dksX2_order_4 23 rfl rfl)
theorem dX2_order_118 : decode cX2_order 118 = .ok (.aload_n 0, 1) := dk_42 (dk_at dksX2_order_5 0 rfl rfl)
theorem dX2_order_119 : decode cX2_order 119 = .ok (.getfield 7, 3) := dk_180 0 7 (dk_at dksX2_order_5 1 rfl rfl)
theorem dX2_order_122 : decode cX2_order 122 = .ok (.iload 6, 2) := dk_21 6 (dk_at dksX2_order_5 4 rfl rfl)
theorem dX2_order_124 : decode cX2_order 124 = .ok (.iconst 4, 1) := dk_7 (dk_at dksX2_order_5 6 rfl rfl)
theorem dX2_order_125 : decode cX2_order 125 = .ok (.iadd, 1) := dk_96 (dk_at dksX2_order_5 7 rfl rfl)
theorem dX2_order_126 : decode cX2_order 126 = .ok (.iload 5, 2) := dk_21 5 (dk_at dksX2_order_5 8 rfl rfl)
theorem dX2_order_128 : decode cX2_order 128 = .ok (.iastore, 1) := dk_79 (dk_at dksX2_order_5 10 rfl rfl)
theorem dX2_order_129 : decode cX2_order 129 = .ok (.aload_n 0, 1) := dk_42 (dk_at dksX2_order_5 11 rfl rfl)
theorem dX2_order_130 : decode cX2_order 130 = .ok (.getfield 7, 3) := dk_180 0 7 (dk_at dksX2_order_5 12 rfl rfl)
theorem dX2_order_133 : decode cX2_order 133 = .ok (.iload 6, 2) := dk_21 6 (dk_at dksX2_order_5 15 rfl rfl)
theorem dX2_order_135 : decode cX2_order 135 = .ok (.iconst 5, 1) := dk_8 (dk_at dksX2_order_5 17 rfl rfl)
theorem dX2_order_136 : decode cX2_order 136 = .ok (.iadd, 1) := dk_96 (dk_at dksX2_order_5 18 rfl rfl)
theorem dX2_order_137 : decode cX2_order 137 = .ok (.iconst 0, 1) := dk_3 (dk_at dksX2_order_5 19 rfl rfl)
theorem dX2_order_138 : decode cX2_order 138 = .ok (.iastore, 1) := dk_79 (dk_at dksX2_order_5 20 rfl rfl)
theorem dX2_order_139 : decode cX2_order 139 = .ok (.aload_n 0, 1) := dk_42 (dk_at dksX2_order_5 21 rfl rfl)
theorem dX2_order_140 : decode cX2_order 140 = .ok (.getfield 7, 3) := dk_180 0 7 (dk_at dksX2_order_6 0 rfl rfl)
theorem dX2_order_143 : decode cX2_order 143 = .ok (.iconst 0, 1) := dk_3 (dk_at dksX2_order_6 3 rfl rfl)
theorem dX2_order_144 : decode cX2_order 144 = .ok (.dup2, 1) := dk_92 (dk_at dksX2_order_6 4 rfl rfl)
theorem dX2_order_145 : decode cX2_order 145 = .ok (.iaload, 1) := dk_46 (dk_at dksX2_order_6 5 rfl rfl)
theorem dX2_order_146 : decode cX2_order 146 = .ok (.iconst 1, 1) := dk_4 (dk_at dksX2_order_6 6 rfl rfl)
theorem dX2_order_147 : decode cX2_order 147 = .ok (.iadd, 1) := dk_96 (dk_at dksX2_order_6 7 rfl rfl)
theorem dX2_order_148 : decode cX2_order 148 = .ok (.iastore, 1) := dk_79 (dk_at dksX2_order_6 8 rfl rfl)
theorem dX2_order_149 : decode cX2_order 149 = .ok (.aload_n 0, 1) := dk_42 (dk_at dksX2_order_6 9 rfl rfl)
theorem dX2_order_150 : decode cX2_order 150 = .ok (.getfield 7, 3) := dk_180 0 7 (dk_at dksX2_order_6 10 rfl rfl)
theorem dX2_order_153 : decode cX2_order 153 = .ok (.iconst 0, 1) := dk_3 (dk_at dksX2_order_6 13 rfl rfl)
theorem dX2_order_154 : decode cX2_order 154 = .ok (.iaload, 1) := dk_46 (dk_at dksX2_order_6 14 rfl rfl)
theorem dX2_order_155 : decode cX2_order 155 = .ok (.iconst 1, 1) := dk_4 (dk_at dksX2_order_6 15 rfl rfl)
theorem dX2_order_156 : decode cX2_order 156 = .ok (.isub, 1) := dk_100 (dk_at dksX2_order_6 16 rfl rfl)
theorem dX2_order_157 : decode cX2_order 157 = .ok (.ireturn, 1) := dk_172 (dk_at dksX2_order_6 17 rfl rfl)
abbrev cX2_isIn : ByteArray := prog_19_method_3_code
def yX2_isIn : MethodName := ⟨RX2, "isIn", "(III)Z"⟩
def dkwX2_isIn_0 : List UInt8 := [26, 27, 161, 0, 12, 26, 28, 163, 0, 7, 4, 167, 0, 4, 3, 172]
abbrev dktX2_isIn_0 : List UInt8 := dkwX2_isIn_0 ++ []
theorem dksX2_isIn_0 : cX2_isIn.data.toList.drop 0 = dktX2_isIn_0 := by decide +kernel
theorem dX2_isIn_0 : decode cX2_isIn 0 = .ok (.iload_n 0, 1) := dk_26 (dk_at dksX2_isIn_0 0 rfl rfl)
theorem dX2_isIn_1 : decode cX2_isIn 1 = .ok (.iload_n 1, 1) := dk_27 (dk_at dksX2_isIn_0 1 rfl rfl)
theorem dX2_isIn_2 : decode cX2_isIn 2 = .ok (.if_icmp .lt 12, 3) := dk_161 0 12 (dk_at dksX2_isIn_0 2 rfl rfl)
theorem dX2_isIn_5 : decode cX2_isIn 5 = .ok (.iload_n 0, 1) := dk_26 (dk_at dksX2_isIn_0 5 rfl rfl)
theorem dX2_isIn_6 : decode cX2_isIn 6 = .ok (.iload_n 2, 1) := dk_28 (dk_at dksX2_isIn_0 6 rfl rfl)
theorem dX2_isIn_7 : decode cX2_isIn 7 = .ok (.if_icmp .gt 7, 3) := dk_163 0 7 (dk_at dksX2_isIn_0 7 rfl rfl)
theorem dX2_isIn_10 : decode cX2_isIn 10 = .ok (.iconst 1, 1) := dk_4 (dk_at dksX2_isIn_0 10 rfl rfl)
theorem dX2_isIn_11 : decode cX2_isIn 11 = .ok (.goto 4, 3) := dk_167 0 4 (dk_at dksX2_isIn_0 11 rfl rfl)
theorem dX2_isIn_14 : decode cX2_isIn 14 = .ok (.iconst 0, 1) := dk_3 (dk_at dksX2_isIn_0 14 rfl rfl)
theorem dX2_isIn_15 : decode cX2_isIn 15 = .ok (.ireturn, 1) := dk_172 (dk_at dksX2_isIn_0 15 rfl rfl)
abbrev cX2_near : ByteArray := prog_19_method_11_code
def yX2_near : MethodName := ⟨RX2, "near", "(I)Z"⟩
def dkwX2_near_0 : List UInt8 := [27, 3, 16, 99, 184, 0, 71, 154, 0, 5, 3, 172, 42, 180, 0, 7, 4, 27, 79, 4, 172]
abbrev dktX2_near_0 : List UInt8 := dkwX2_near_0 ++ []
theorem dksX2_near_0 : cX2_near.data.toList.drop 0 = dktX2_near_0 := by decide +kernel
theorem dX2_near_0 : decode cX2_near 0 = .ok (.iload_n 1, 1) := dk_27 (dk_at dksX2_near_0 0 rfl rfl)
theorem dX2_near_1 : decode cX2_near 1 = .ok (.iconst 0, 1) := dk_3 (dk_at dksX2_near_0 1 rfl rfl)
theorem dX2_near_2 : decode cX2_near 2 = .ok (.bipush 99, 2) := dk_16 99 (dk_at dksX2_near_0 2 rfl rfl)
theorem dX2_near_4 : decode cX2_near 4 = .ok (.invokestatic 71, 3) := dk_184 0 71 (dk_at dksX2_near_0 4 rfl rfl)
theorem dX2_near_7 : decode cX2_near 7 = .ok (.ifCond .ne 5, 3) := dk_154 0 5 (dk_at dksX2_near_0 7 rfl rfl)
theorem dX2_near_10 : decode cX2_near 10 = .ok (.iconst 0, 1) := dk_3 (dk_at dksX2_near_0 10 rfl rfl)
theorem dX2_near_11 : decode cX2_near 11 = .ok (.ireturn, 1) := dk_172 (dk_at dksX2_near_0 11 rfl rfl)
theorem dX2_near_12 : decode cX2_near 12 = .ok (.aload_n 0, 1) := dk_42 (dk_at dksX2_near_0 12 rfl rfl)
theorem dX2_near_13 : decode cX2_near 13 = .ok (.getfield 7, 3) := dk_180 0 7 (dk_at dksX2_near_0 13 rfl rfl)
theorem dX2_near_16 : decode cX2_near 16 = .ok (.iconst 1, 1) := dk_4 (dk_at dksX2_near_0 16 rfl rfl)
theorem dX2_near_17 : decode cX2_near 17 = .ok (.iload_n 1, 1) := dk_27 (dk_at dksX2_near_0 17 rfl rfl)
theorem dX2_near_18 : decode cX2_near 18 = .ok (.iastore, 1) := dk_79 (dk_at dksX2_near_0 18 rfl rfl)
theorem dX2_near_19 : decode cX2_near 19 = .ok (.iconst 1, 1) := dk_4 (dk_at dksX2_near_0 19 rfl rfl)
theorem dX2_near_20 : decode cX2_near 20 = .ok (.ireturn, 1) := dk_172 (dk_at dksX2_near_0 20 rfl rfl)
abbrev cX2_feed : ByteArray := prog_19_method_13_code
def yX2_feed : MethodName := ⟨RX2, "feed", "(IIIII)I"⟩
def dkwX2_feed_2 : List UInt8 := [172]
abbrev dktX2_feed_2 : List UInt8 := dkwX2_feed_2 ++ []
def dkwX2_feed_1 : List UInt8 := [182, 0, 78, 42, 29, 182, 0, 78, 42, 21, 4, 182, 0, 78, 42, 21, 5, 182, 0, 78, 42, 180, 0, 75]
abbrev dktX2_feed_1 : List UInt8 := dkwX2_feed_1 ++ dktX2_feed_2
def dkwX2_feed_0 : List UInt8 := [42, 180, 0, 75, 16, 20, 96, 17, 1, 44, 164, 0, 5, 2, 172, 42, 27, 182, 0, 78, 42, 28]
abbrev dktX2_feed_0 : List UInt8 := dkwX2_feed_0 ++ dktX2_feed_1
theorem dksX2_feed_0 : cX2_feed.data.toList.drop 0 = dktX2_feed_0 := by decide +kernel
theorem dksX2_feed_1 : cX2_feed.data.toList.drop 22 = dktX2_feed_1 := dk_seg dksX2_feed_0 22 rfl rfl
theorem dksX2_feed_2 : cX2_feed.data.toList.drop 46 = dktX2_feed_2 := dk_seg dksX2_feed_1 24 rfl rfl
theorem dX2_feed_0 : decode cX2_feed 0 = .ok (.aload_n 0, 1) := dk_42 (dk_at dksX2_feed_0 0 rfl rfl)
theorem dX2_feed_1 : decode cX2_feed 1 = .ok (.getfield 75, 3) := dk_180 0 75 (dk_at dksX2_feed_0 1 rfl rfl)
theorem dX2_feed_4 : decode cX2_feed 4 = .ok (.bipush 20, 2) := dk_16 20 (dk_at dksX2_feed_0 4 rfl rfl)
theorem dX2_feed_6 : decode cX2_feed 6 = .ok (.iadd, 1) := dk_96 (dk_at dksX2_feed_0 6 rfl rfl)
theorem dX2_feed_7 : decode cX2_feed 7 = .ok (.sipush 300, 3) := dk_17 1 44 (dk_at dksX2_feed_0 7 rfl rfl)
theorem dX2_feed_10 : decode cX2_feed 10 = .ok (.if_icmp .le 5, 3) := dk_164 0 5 (dk_at dksX2_feed_0 10 rfl rfl)
theorem dX2_feed_13 : decode cX2_feed 13 = .ok (.iconst (-1), 1) := dk_2 (dk_at dksX2_feed_0 13 rfl rfl)
theorem dX2_feed_14 : decode cX2_feed 14 = .ok (.ireturn, 1) := dk_172 (dk_at dksX2_feed_0 14 rfl rfl)
theorem dX2_feed_15 : decode cX2_feed 15 = .ok (.aload_n 0, 1) := dk_42 (dk_at dksX2_feed_0 15 rfl rfl)
theorem dX2_feed_16 : decode cX2_feed 16 = .ok (.iload_n 1, 1) := dk_27 (dk_at dksX2_feed_0 16 rfl rfl)
theorem dX2_feed_17 : decode cX2_feed 17 = .ok (.invokevirtual 78, 3) := dk_182 0 78 (dk_at dksX2_feed_0 17 rfl rfl)
theorem dX2_feed_20 : decode cX2_feed 20 = .ok (.aload_n 0, 1) := dk_42 (dk_at dksX2_feed_0 20 rfl rfl)
theorem dX2_feed_21 : decode cX2_feed 21 = .ok (.iload_n 2, 1) := dk_28 (dk_at dksX2_feed_0 21 rfl rfl)
theorem dX2_feed_22 : decode cX2_feed 22 = .ok (.invokevirtual 78, 3) := dk_182 0 78 (dk_at dksX2_feed_1 0 rfl rfl)
theorem dX2_feed_25 : decode cX2_feed 25 = .ok (.aload_n 0, 1) := dk_42 (dk_at dksX2_feed_1 3 rfl rfl)
theorem dX2_feed_26 : decode cX2_feed 26 = .ok (.iload_n 3, 1) := dk_29 (dk_at dksX2_feed_1 4 rfl rfl)
theorem dX2_feed_27 : decode cX2_feed 27 = .ok (.invokevirtual 78, 3) := dk_182 0 78 (dk_at dksX2_feed_1 5 rfl rfl)
theorem dX2_feed_30 : decode cX2_feed 30 = .ok (.aload_n 0, 1) := dk_42 (dk_at dksX2_feed_1 8 rfl rfl)
theorem dX2_feed_31 : decode cX2_feed 31 = .ok (.iload 4, 2) := dk_21 4 (dk_at dksX2_feed_1 9 rfl rfl)
theorem dX2_feed_33 : decode cX2_feed 33 = .ok (.invokevirtual 78, 3) := dk_182 0 78 (dk_at dksX2_feed_1 11 rfl rfl)
theorem dX2_feed_36 : decode cX2_feed 36 = .ok (.aload_n 0, 1) := dk_42 (dk_at dksX2_feed_1 14 rfl rfl)
theorem dX2_feed_37 : decode cX2_feed 37 = .ok (.iload 5, 2) := dk_21 5 (dk_at dksX2_feed_1 15 rfl rfl)
theorem dX2_feed_39 : decode cX2_feed 39 = .ok (.invokevirtual 78, 3) := dk_182 0 78 (dk_at dksX2_feed_1 17 rfl rfl)
theorem dX2_feed_42 : decode cX2_feed 42 = .ok (.aload_n 0, 1) := dk_42 (dk_at dksX2_feed_1 20 rfl rfl)
theorem dX2_feed_43 : decode cX2_feed 43 = .ok (.getfield 75, 3) := dk_180 0 75 (dk_at dksX2_feed_1 21 rfl rfl)
theorem dX2_feed_46 : decode cX2_feed 46 = .ok (.ireturn, 1) := dk_172 (dk_at dksX2_feed_2 0 rfl rfl)
abbrev cX2_four : ByteArray := prog_19_method_12_code
def yX2_four : MethodName := ⟨RX2, "four", "(I)V"⟩
def dkwX2_four_1 : List UInt8 := [89, 180, 0, 75, 4, 96, 181, 0, 75, 132, 2, 248, 167, 255, 223, 177]
abbrev dktX2_four_1 : List UInt8 := dkwX2_four_1 ++ []
def dkwX2_four_0 : List UInt8 := [16, 24, 61, 28, 155, 0, 35, 42, 180, 0, 19, 42, 180, 0, 75, 27, 28, 122, 17, 0, 255, 126, 79, 42]
abbrev dktX2_four_0 : List UInt8 := dkwX2_four_0 ++ dktX2_four_1
theorem dksX2_four_0 : cX2_four.data.toList.drop 0 = dktX2_four_0 := by decide +kernel
theorem dksX2_four_1 : cX2_four.data.toList.drop 24 = dktX2_four_1 := dk_seg dksX2_four_0 24 rfl rfl
theorem dX2_four_0 : decode cX2_four 0 = .ok (.bipush 24, 2) := dk_16 24 (dk_at dksX2_four_0 0 rfl rfl)
theorem dX2_four_2 : decode cX2_four 2 = .ok (.istore_n 2, 1) := dk_61 (dk_at dksX2_four_0 2 rfl rfl)
theorem dX2_four_3 : decode cX2_four 3 = .ok (.iload_n 2, 1) := dk_28 (dk_at dksX2_four_0 3 rfl rfl)
theorem dX2_four_4 : decode cX2_four 4 = .ok (.ifCond .lt 35, 3) := dk_155 0 35 (dk_at dksX2_four_0 4 rfl rfl)
theorem dX2_four_7 : decode cX2_four 7 = .ok (.aload_n 0, 1) := dk_42 (dk_at dksX2_four_0 7 rfl rfl)
theorem dX2_four_8 : decode cX2_four 8 = .ok (.getfield 19, 3) := dk_180 0 19 (dk_at dksX2_four_0 8 rfl rfl)
theorem dX2_four_11 : decode cX2_four 11 = .ok (.aload_n 0, 1) := dk_42 (dk_at dksX2_four_0 11 rfl rfl)
theorem dX2_four_12 : decode cX2_four 12 = .ok (.getfield 75, 3) := dk_180 0 75 (dk_at dksX2_four_0 12 rfl rfl)
theorem dX2_four_15 : decode cX2_four 15 = .ok (.iload_n 1, 1) := dk_27 (dk_at dksX2_four_0 15 rfl rfl)
theorem dX2_four_16 : decode cX2_four 16 = .ok (.iload_n 2, 1) := dk_28 (dk_at dksX2_four_0 16 rfl rfl)
theorem dX2_four_17 : decode cX2_four 17 = .ok (.ishr, 1) := dk_122 (dk_at dksX2_four_0 17 rfl rfl)
theorem dX2_four_18 : decode cX2_four 18 = .ok (.sipush 255, 3) := dk_17 0 255 (dk_at dksX2_four_0 18 rfl rfl)
theorem dX2_four_21 : decode cX2_four 21 = .ok (.iand, 1) := dk_126 (dk_at dksX2_four_0 21 rfl rfl)
theorem dX2_four_22 : decode cX2_four 22 = .ok (.iastore, 1) := dk_79 (dk_at dksX2_four_0 22 rfl rfl)
theorem dX2_four_23 : decode cX2_four 23 = .ok (.aload_n 0, 1) := dk_42 (dk_at dksX2_four_0 23 rfl rfl)
theorem dX2_four_24 : decode cX2_four 24 = .ok (.dup, 1) := dk_89 (dk_at dksX2_four_1 0 rfl rfl)
theorem dX2_four_25 : decode cX2_four 25 = .ok (.getfield 75, 3) := dk_180 0 75 (dk_at dksX2_four_1 1 rfl rfl)
theorem dX2_four_28 : decode cX2_four 28 = .ok (.iconst 1, 1) := dk_4 (dk_at dksX2_four_1 4 rfl rfl)
theorem dX2_four_29 : decode cX2_four 29 = .ok (.iadd, 1) := dk_96 (dk_at dksX2_four_1 5 rfl rfl)
theorem dX2_four_30 : decode cX2_four 30 = .ok (.putfield 75, 3) := dk_181 0 75 (dk_at dksX2_four_1 6 rfl rfl)
theorem dX2_four_33 : decode cX2_four 33 = .ok (.iinc 2 (-8), 3) := dk_132 2 248 (dk_at dksX2_four_1 9 rfl rfl)
theorem dX2_four_36 : decode cX2_four 36 = .ok (.goto (-33), 3) := dk_167 255 223 (dk_at dksX2_four_1 12 rfl rfl)
theorem dX2_four_39 : decode cX2_four 39 = .ok (.return_, 1) := dk_177 (dk_at dksX2_four_1 15 rfl rfl)
abbrev cX2_end : ByteArray := prog_19_method_14_code
def yX2_end : MethodName := ⟨RX2, "end", "(I)I"⟩
def dkwX2_end_0 : List UInt8 := [27, 3, 42, 180, 0, 75, 184, 0, 71, 154, 0, 5, 2, 172, 42, 27, 181, 0, 75, 27, 172]
abbrev dktX2_end_0 : List UInt8 := dkwX2_end_0 ++ []
theorem dksX2_end_0 : cX2_end.data.toList.drop 0 = dktX2_end_0 := by decide +kernel
theorem dX2_end_0 : decode cX2_end 0 = .ok (.iload_n 1, 1) := dk_27 (dk_at dksX2_end_0 0 rfl rfl)
theorem dX2_end_1 : decode cX2_end 1 = .ok (.iconst 0, 1) := dk_3 (dk_at dksX2_end_0 1 rfl rfl)
theorem dX2_end_2 : decode cX2_end 2 = .ok (.aload_n 0, 1) := dk_42 (dk_at dksX2_end_0 2 rfl rfl)
theorem dX2_end_3 : decode cX2_end 3 = .ok (.getfield 75, 3) := dk_180 0 75 (dk_at dksX2_end_0 3 rfl rfl)
theorem dX2_end_6 : decode cX2_end 6 = .ok (.invokestatic 71, 3) := dk_184 0 71 (dk_at dksX2_end_0 6 rfl rfl)
theorem dX2_end_9 : decode cX2_end 9 = .ok (.ifCond .ne 5, 3) := dk_154 0 5 (dk_at dksX2_end_0 9 rfl rfl)
theorem dX2_end_12 : decode cX2_end 12 = .ok (.iconst (-1), 1) := dk_2 (dk_at dksX2_end_0 12 rfl rfl)
theorem dX2_end_13 : decode cX2_end 13 = .ok (.ireturn, 1) := dk_172 (dk_at dksX2_end_0 13 rfl rfl)
theorem dX2_end_14 : decode cX2_end 14 = .ok (.aload_n 0, 1) := dk_42 (dk_at dksX2_end_0 14 rfl rfl)
theorem dX2_end_15 : decode cX2_end 15 = .ok (.iload_n 1, 1) := dk_27 (dk_at dksX2_end_0 15 rfl rfl)
theorem dX2_end_16 : decode cX2_end 16 = .ok (.putfield 75, 3) := dk_181 0 75 (dk_at dksX2_end_0 16 rfl rfl)
theorem dX2_end_19 : decode cX2_end 19 = .ok (.iload_n 1, 1) := dk_27 (dk_at dksX2_end_0 19 rfl rfl)
theorem dX2_end_20 : decode cX2_end 20 = .ok (.ireturn, 1) := dk_172 (dk_at dksX2_end_0 20 rfl rfl)
abbrev cX2_text : ByteArray := prog_19_method_53_code
def yX2_text : MethodName := ⟨RX2, "text", "()I"⟩
def dkwX2_text_3 : List UInt8 := [4, 100, 172]
abbrev dktX2_text_3 : List UInt8 := dkwX2_text_3 ++ []
def dkwX2_text_2 : List UInt8 := [180, 0, 22, 153, 0, 5, 2, 172, 42, 180, 0, 7, 6, 92, 46, 4, 96, 79, 42, 180, 0, 7, 6, 46]
abbrev dktX2_text_2 : List UInt8 := dkwX2_text_2 ++ dktX2_text_3
def dkwX2_text_1 : List UInt8 := [180, 0, 22, 154, 0, 7, 2, 167, 0, 7, 42, 180, 0, 89, 181, 0, 26, 42, 3, 181, 0, 75, 42]
abbrev dktX2_text_1 : List UInt8 := dkwX2_text_1 ++ dktX2_text_2
def dkwX2_text_0 : List UInt8 := [42, 180, 0, 7, 6, 46, 7, 160, 0, 5, 2, 172, 42, 42, 182, 0, 252, 181, 0, 22, 42, 42]
abbrev dktX2_text_0 : List UInt8 := dkwX2_text_0 ++ dktX2_text_1
theorem dksX2_text_0 : cX2_text.data.toList.drop 0 = dktX2_text_0 := by decide +kernel
theorem dksX2_text_1 : cX2_text.data.toList.drop 22 = dktX2_text_1 := dk_seg dksX2_text_0 22 rfl rfl
theorem dksX2_text_2 : cX2_text.data.toList.drop 45 = dktX2_text_2 := dk_seg dksX2_text_1 23 rfl rfl
theorem dksX2_text_3 : cX2_text.data.toList.drop 69 = dktX2_text_3 := dk_seg dksX2_text_2 24 rfl rfl
theorem dX2_text_0 : decode cX2_text 0 = .ok (.aload_n 0, 1) := dk_42 (dk_at dksX2_text_0 0 rfl rfl)
theorem dX2_text_1 : decode cX2_text 1 = .ok (.getfield 7, 3) := dk_180 0 7 (dk_at dksX2_text_0 1 rfl rfl)
theorem dX2_text_4 : decode cX2_text 4 = .ok (.iconst 3, 1) := dk_6 (dk_at dksX2_text_0 4 rfl rfl)
theorem dX2_text_5 : decode cX2_text 5 = .ok (.iaload, 1) := dk_46 (dk_at dksX2_text_0 5 rfl rfl)
theorem dX2_text_6 : decode cX2_text 6 = .ok (.iconst 4, 1) := dk_7 (dk_at dksX2_text_0 6 rfl rfl)
theorem dX2_text_7 : decode cX2_text 7 = .ok (.if_icmp .ne 5, 3) := dk_160 0 5 (dk_at dksX2_text_0 7 rfl rfl)
theorem dX2_text_10 : decode cX2_text 10 = .ok (.iconst (-1), 1) := dk_2 (dk_at dksX2_text_0 10 rfl rfl)
theorem dX2_text_11 : decode cX2_text 11 = .ok (.ireturn, 1) := dk_172 (dk_at dksX2_text_0 11 rfl rfl)
theorem dX2_text_12 : decode cX2_text 12 = .ok (.aload_n 0, 1) := dk_42 (dk_at dksX2_text_0 12 rfl rfl)
theorem dX2_text_13 : decode cX2_text 13 = .ok (.aload_n 0, 1) := dk_42 (dk_at dksX2_text_0 13 rfl rfl)
theorem dX2_text_14 : decode cX2_text 14 = .ok (.invokevirtual 252, 3) := dk_182 0 252 (dk_at dksX2_text_0 14 rfl rfl)
theorem dX2_text_17 : decode cX2_text 17 = .ok (.putfield 22, 3) := dk_181 0 22 (dk_at dksX2_text_0 17 rfl rfl)
theorem dX2_text_20 : decode cX2_text 20 = .ok (.aload_n 0, 1) := dk_42 (dk_at dksX2_text_0 20 rfl rfl)
theorem dX2_text_21 : decode cX2_text 21 = .ok (.aload_n 0, 1) := dk_42 (dk_at dksX2_text_0 21 rfl rfl)
theorem dX2_text_22 : decode cX2_text 22 = .ok (.getfield 22, 3) := dk_180 0 22 (dk_at dksX2_text_1 0 rfl rfl)
theorem dX2_text_25 : decode cX2_text 25 = .ok (.ifCond .ne 7, 3) := dk_154 0 7 (dk_at dksX2_text_1 3 rfl rfl)
theorem dX2_text_28 : decode cX2_text 28 = .ok (.iconst (-1), 1) := dk_2 (dk_at dksX2_text_1 6 rfl rfl)
theorem dX2_text_29 : decode cX2_text 29 = .ok (.goto 7, 3) := dk_167 0 7 (dk_at dksX2_text_1 7 rfl rfl)
theorem dX2_text_32 : decode cX2_text 32 = .ok (.aload_n 0, 1) := dk_42 (dk_at dksX2_text_1 10 rfl rfl)
theorem dX2_text_33 : decode cX2_text 33 = .ok (.getfield 89, 3) := dk_180 0 89 (dk_at dksX2_text_1 11 rfl rfl)
theorem dX2_text_36 : decode cX2_text 36 = .ok (.putfield 26, 3) := dk_181 0 26 (dk_at dksX2_text_1 14 rfl rfl)
theorem dX2_text_39 : decode cX2_text 39 = .ok (.aload_n 0, 1) := dk_42 (dk_at dksX2_text_1 17 rfl rfl)
theorem dX2_text_40 : decode cX2_text 40 = .ok (.iconst 0, 1) := dk_3 (dk_at dksX2_text_1 18 rfl rfl)
theorem dX2_text_41 : decode cX2_text 41 = .ok (.putfield 75, 3) := dk_181 0 75 (dk_at dksX2_text_1 19 rfl rfl)
theorem dX2_text_44 : decode cX2_text 44 = .ok (.aload_n 0, 1) := dk_42 (dk_at dksX2_text_1 22 rfl rfl)
theorem dX2_text_45 : decode cX2_text 45 = .ok (.getfield 22, 3) := dk_180 0 22 (dk_at dksX2_text_2 0 rfl rfl)
theorem dX2_text_48 : decode cX2_text 48 = .ok (.ifCond .eq 5, 3) := dk_153 0 5 (dk_at dksX2_text_2 3 rfl rfl)
theorem dX2_text_51 : decode cX2_text 51 = .ok (.iconst (-1), 1) := dk_2 (dk_at dksX2_text_2 6 rfl rfl)
theorem dX2_text_52 : decode cX2_text 52 = .ok (.ireturn, 1) := dk_172 (dk_at dksX2_text_2 7 rfl rfl)
theorem dX2_text_53 : decode cX2_text 53 = .ok (.aload_n 0, 1) := dk_42 (dk_at dksX2_text_2 8 rfl rfl)
theorem dX2_text_54 : decode cX2_text 54 = .ok (.getfield 7, 3) := dk_180 0 7 (dk_at dksX2_text_2 9 rfl rfl)
theorem dX2_text_57 : decode cX2_text 57 = .ok (.iconst 3, 1) := dk_6 (dk_at dksX2_text_2 12 rfl rfl)
theorem dX2_text_58 : decode cX2_text 58 = .ok (.dup2, 1) := dk_92 (dk_at dksX2_text_2 13 rfl rfl)
theorem dX2_text_59 : decode cX2_text 59 = .ok (.iaload, 1) := dk_46 (dk_at dksX2_text_2 14 rfl rfl)
theorem dX2_text_60 : decode cX2_text 60 = .ok (.iconst 1, 1) := dk_4 (dk_at dksX2_text_2 15 rfl rfl)
theorem dX2_text_61 : decode cX2_text 61 = .ok (.iadd, 1) := dk_96 (dk_at dksX2_text_2 16 rfl rfl)
theorem dX2_text_62 : decode cX2_text 62 = .ok (.iastore, 1) := dk_79 (dk_at dksX2_text_2 17 rfl rfl)
theorem dX2_text_63 : decode cX2_text 63 = .ok (.aload_n 0, 1) := dk_42 (dk_at dksX2_text_2 18 rfl rfl)
theorem dX2_text_64 : decode cX2_text 64 = .ok (.getfield 7, 3) := dk_180 0 7 (dk_at dksX2_text_2 19 rfl rfl)
theorem dX2_text_67 : decode cX2_text 67 = .ok (.iconst 3, 1) := dk_6 (dk_at dksX2_text_2 22 rfl rfl)
theorem dX2_text_68 : decode cX2_text 68 = .ok (.iaload, 1) := dk_46 (dk_at dksX2_text_2 23 rfl rfl)
theorem dX2_text_69 : decode cX2_text 69 = .ok (.iconst 1, 1) := dk_4 (dk_at dksX2_text_3 0 rfl rfl)
theorem dX2_text_70 : decode cX2_text 70 = .ok (.isub, 1) := dk_100 (dk_at dksX2_text_3 1 rfl rfl)
theorem dX2_text_71 : decode cX2_text 71 = .ok (.ireturn, 1) := dk_172 (dk_at dksX2_text_3 2 rfl rfl)
abbrev cX2_readText : ByteArray := prog_19_method_52_code
def yX2_readText : MethodName := ⟨RX2, "readText", "()I"⟩
def dkwX2_readText_2 : List UInt8 := [153, 0, 17, 42, 182, 0, 249, 60, 27, 153, 0, 5, 27, 172, 167, 255, 238, 3, 172]
abbrev dktX2_readText_2 : List UInt8 := dkwX2_readText_2 ++ []
def dkwX2_readText_1 : List UInt8 := [42, 3, 181, 0, 134, 42, 3, 181, 0, 238, 42, 3, 181, 0, 82, 42, 182, 0, 164, 42, 180, 0, 92]
abbrev dktX2_readText_1 : List UInt8 := dkwX2_readText_1 ++ dktX2_readText_2
def dkwX2_readText_0 : List UInt8 := [42, 17, 2, 241, 42, 180, 0, 7, 6, 46, 104, 181, 0, 131, 42, 180, 0, 16, 42, 180, 0, 131, 3, 79]
abbrev dktX2_readText_0 : List UInt8 := dkwX2_readText_0 ++ dktX2_readText_1
theorem dksX2_readText_0 : cX2_readText.data.toList.drop 0 = dktX2_readText_0 := by decide +kernel
theorem dksX2_readText_1 : cX2_readText.data.toList.drop 24 = dktX2_readText_1 := dk_seg dksX2_readText_0 24 rfl rfl
theorem dksX2_readText_2 : cX2_readText.data.toList.drop 47 = dktX2_readText_2 := dk_seg dksX2_readText_1 23 rfl rfl
theorem dX2_readText_0 : decode cX2_readText 0 = .ok (.aload_n 0, 1) := dk_42 (dk_at dksX2_readText_0 0 rfl rfl)
theorem dX2_readText_1 : decode cX2_readText 1 = .ok (.sipush 753, 3) := dk_17 2 241 (dk_at dksX2_readText_0 1 rfl rfl)
theorem dX2_readText_4 : decode cX2_readText 4 = .ok (.aload_n 0, 1) := dk_42 (dk_at dksX2_readText_0 4 rfl rfl)
theorem dX2_readText_5 : decode cX2_readText 5 = .ok (.getfield 7, 3) := dk_180 0 7 (dk_at dksX2_readText_0 5 rfl rfl)
theorem dX2_readText_8 : decode cX2_readText 8 = .ok (.iconst 3, 1) := dk_6 (dk_at dksX2_readText_0 8 rfl rfl)
theorem dX2_readText_9 : decode cX2_readText 9 = .ok (.iaload, 1) := dk_46 (dk_at dksX2_readText_0 9 rfl rfl)
theorem dX2_readText_10 : decode cX2_readText 10 = .ok (.imul, 1) := dk_104 (dk_at dksX2_readText_0 10 rfl rfl)
theorem dX2_readText_11 : decode cX2_readText 11 = .ok (.putfield 131, 3) := dk_181 0 131 (dk_at dksX2_readText_0 11 rfl rfl)
theorem dX2_readText_14 : decode cX2_readText 14 = .ok (.aload_n 0, 1) := dk_42 (dk_at dksX2_readText_0 14 rfl rfl)
theorem dX2_readText_15 : decode cX2_readText 15 = .ok (.getfield 16, 3) := dk_180 0 16 (dk_at dksX2_readText_0 15 rfl rfl)
theorem dX2_readText_18 : decode cX2_readText 18 = .ok (.aload_n 0, 1) := dk_42 (dk_at dksX2_readText_0 18 rfl rfl)
theorem dX2_readText_19 : decode cX2_readText 19 = .ok (.getfield 131, 3) := dk_180 0 131 (dk_at dksX2_readText_0 19 rfl rfl)
theorem dX2_readText_22 : decode cX2_readText 22 = .ok (.iconst 0, 1) := dk_3 (dk_at dksX2_readText_0 22 rfl rfl)
theorem dX2_readText_23 : decode cX2_readText 23 = .ok (.iastore, 1) := dk_79 (dk_at dksX2_readText_0 23 rfl rfl)
theorem dX2_readText_24 : decode cX2_readText 24 = .ok (.aload_n 0, 1) := dk_42 (dk_at dksX2_readText_1 0 rfl rfl)
theorem dX2_readText_25 : decode cX2_readText 25 = .ok (.iconst 0, 1) := dk_3 (dk_at dksX2_readText_1 1 rfl rfl)
theorem dX2_readText_26 : decode cX2_readText 26 = .ok (.putfield 134, 3) := dk_181 0 134 (dk_at dksX2_readText_1 2 rfl rfl)
theorem dX2_readText_29 : decode cX2_readText 29 = .ok (.aload_n 0, 1) := dk_42 (dk_at dksX2_readText_1 5 rfl rfl)
theorem dX2_readText_30 : decode cX2_readText 30 = .ok (.iconst 0, 1) := dk_3 (dk_at dksX2_readText_1 6 rfl rfl)
theorem dX2_readText_31 : decode cX2_readText 31 = .ok (.putfield 238, 3) := dk_181 0 238 (dk_at dksX2_readText_1 7 rfl rfl)
theorem dX2_readText_34 : decode cX2_readText 34 = .ok (.aload_n 0, 1) := dk_42 (dk_at dksX2_readText_1 10 rfl rfl)
theorem dX2_readText_35 : decode cX2_readText 35 = .ok (.iconst 0, 1) := dk_3 (dk_at dksX2_readText_1 11 rfl rfl)
theorem dX2_readText_36 : decode cX2_readText 36 = .ok (.putfield 82, 3) := dk_181 0 82 (dk_at dksX2_readText_1 12 rfl rfl)
theorem dX2_readText_39 : decode cX2_readText 39 = .ok (.aload_n 0, 1) := dk_42 (dk_at dksX2_readText_1 15 rfl rfl)
theorem dX2_readText_40 : decode cX2_readText 40 = .ok (.invokevirtual 164, 3) := dk_182 0 164 (dk_at dksX2_readText_1 16 rfl rfl)
theorem dX2_readText_43 : decode cX2_readText 43 = .ok (.aload_n 0, 1) := dk_42 (dk_at dksX2_readText_1 19 rfl rfl)
theorem dX2_readText_44 : decode cX2_readText 44 = .ok (.getfield 92, 3) := dk_180 0 92 (dk_at dksX2_readText_1 20 rfl rfl)
theorem dX2_readText_47 : decode cX2_readText 47 = .ok (.ifCond .eq 17, 3) := dk_153 0 17 (dk_at dksX2_readText_2 0 rfl rfl)
theorem dX2_readText_50 : decode cX2_readText 50 = .ok (.aload_n 0, 1) := dk_42 (dk_at dksX2_readText_2 3 rfl rfl)
theorem dX2_readText_51 : decode cX2_readText 51 = .ok (.invokevirtual 249, 3) := dk_182 0 249 (dk_at dksX2_readText_2 4 rfl rfl)
theorem dX2_readText_54 : decode cX2_readText 54 = .ok (.istore_n 1, 1) := dk_60 (dk_at dksX2_readText_2 7 rfl rfl)
theorem dX2_readText_55 : decode cX2_readText 55 = .ok (.iload_n 1, 1) := dk_27 (dk_at dksX2_readText_2 8 rfl rfl)
theorem dX2_readText_56 : decode cX2_readText 56 = .ok (.ifCond .eq 5, 3) := dk_153 0 5 (dk_at dksX2_readText_2 9 rfl rfl)
theorem dX2_readText_59 : decode cX2_readText 59 = .ok (.iload_n 1, 1) := dk_27 (dk_at dksX2_readText_2 12 rfl rfl)
theorem dX2_readText_60 : decode cX2_readText 60 = .ok (.ireturn, 1) := dk_172 (dk_at dksX2_readText_2 13 rfl rfl)
theorem dX2_readText_61 : decode cX2_readText 61 = .ok (.goto (-18), 3) := dk_167 255 238 (dk_at dksX2_readText_2 14 rfl rfl)
theorem dX2_readText_64 : decode cX2_readText 64 = .ok (.iconst 0, 1) := dk_3 (dk_at dksX2_readText_2 17 rfl rfl)
theorem dX2_readText_65 : decode cX2_readText 65 = .ok (.ireturn, 1) := dk_172 (dk_at dksX2_readText_2 18 rfl rfl)
abbrev cX2_nextToken : ByteArray := prog_19_method_19_code
def yX2_nextToken : MethodName := ⟨RX2, "nextToken", "()V"⟩
def dkwX2_nextToken_13 : List UInt8 := [180, 0, 82, 4, 96, 181, 0, 82, 177]
abbrev dktX2_nextToken_13 : List UInt8 := dkwX2_nextToken_13 ++ []
def dkwX2_nextToken_12 : List UInt8 := [16, 61, 160, 0, 28, 42, 27, 16, 60, 160, 0, 7, 7, 167, 0, 4, 8, 181, 0, 92, 42, 89]
abbrev dktX2_nextToken_12 : List UInt8 := dkwX2_nextToken_12 ++ dktX2_nextToken_13
def dkwX2_nextToken_11 : List UInt8 := [181, 0, 82, 27, 16, 60, 159, 0, 9, 27, 16, 62, 160, 0, 41, 42, 42, 180, 0, 82, 182, 0, 85]
abbrev dktX2_nextToken_11 : List UInt8 := dkwX2_nextToken_11 ++ dktX2_nextToken_12
def dkwX2_nextToken_10 : List UInt8 := [42, 27, 184, 0, 112, 153, 0, 7, 27, 167, 0, 4, 6, 181, 0, 92, 42, 89, 180, 0, 82, 4, 96]
abbrev dktX2_nextToken_10 : List UInt8 := dkwX2_nextToken_10 ++ dktX2_nextToken_11
def dkwX2_nextToken_9 : List UInt8 := [180, 0, 82, 182, 0, 85, 133, 129, 181, 0, 106, 42, 89, 180, 0, 82, 4, 96, 181, 0, 82, 167, 255, 193]
abbrev dktX2_nextToken_9 : List UInt8 := dkwX2_nextToken_9 ++ dktX2_nextToken_10
def dkwX2_nextToken_8 : List UInt8 := [16, 48, 123, 9, 148, 153, 0, 9, 20, 0, 110, 167, 0, 20, 42, 180, 0, 106, 16, 8, 121, 42, 42]
abbrev dktX2_nextToken_8 : List UInt8 := dkwX2_nextToken_8 ++ dktX2_nextToken_9
def dkwX2_nextToken_7 : List UInt8 := [9, 181, 0, 106, 42, 42, 180, 0, 82, 182, 0, 85, 184, 0, 103, 153, 0, 131, 42, 42, 180, 0, 106]
abbrev dktX2_nextToken_7 : List UInt8 := dkwX2_nextToken_7 ++ dktX2_nextToken_8
def dkwX2_nextToken_6 : List UInt8 := [180, 0, 82, 4, 96, 181, 0, 82, 167, 255, 193, 27, 184, 0, 103, 153, 0, 79, 42, 5, 181, 0, 92, 42]
abbrev dktX2_nextToken_6 : List UInt8 := dkwX2_nextToken_6 ++ dktX2_nextToken_7
def dkwX2_nextToken_5 : List UInt8 := [16, 10, 42, 180, 0, 99, 104, 42, 42, 180, 0, 82, 182, 0, 85, 96, 16, 48, 100, 181, 0, 99, 42, 89]
abbrev dktX2_nextToken_5 : List UInt8 := dkwX2_nextToken_5 ++ dktX2_nextToken_6
def dkwX2_nextToken_4 : List UInt8 := [184, 0, 95, 153, 0, 214, 42, 42, 180, 0, 99, 18, 102, 164, 0, 10, 42, 180, 0, 99, 167, 0, 22]
abbrev dktX2_nextToken_4 : List UInt8 := dkwX2_nextToken_4 ++ dktX2_nextToken_5
def dkwX2_nextToken_3 : List UInt8 := [184, 0, 95, 153, 0, 79, 42, 4, 181, 0, 92, 42, 3, 181, 0, 99, 42, 42, 180, 0, 82, 182, 0, 85]
abbrev dktX2_nextToken_3 : List UInt8 := dkwX2_nextToken_3 ++ dktX2_nextToken_4
def dkwX2_nextToken_2 : List UInt8 := [42, 42, 180, 0, 82, 182, 0, 85, 60, 27, 156, 0, 11, 42, 3, 181, 0, 92, 167, 0, 245, 27]
abbrev dktX2_nextToken_2 : List UInt8 := dkwX2_nextToken_2 ++ dktX2_nextToken_3
def dkwX2_nextToken_1 : List UInt8 := [160, 0, 16, 42, 89, 180, 0, 82, 4, 96, 181, 0, 82, 167, 255, 220, 42, 42, 180, 0, 82, 181, 0, 89]
abbrev dktX2_nextToken_1 : List UInt8 := dkwX2_nextToken_1 ++ dktX2_nextToken_2
def dkwX2_nextToken_0 : List UInt8 := [42, 42, 180, 0, 82, 182, 0, 85, 16, 32, 159, 0, 16, 42, 42, 180, 0, 82, 182, 0, 85, 16, 10]
abbrev dktX2_nextToken_0 : List UInt8 := dkwX2_nextToken_0 ++ dktX2_nextToken_1
theorem dksX2_nextToken_0 : cX2_nextToken.data.toList.drop 0 = dktX2_nextToken_0 := by decide +kernel
theorem dksX2_nextToken_1 : cX2_nextToken.data.toList.drop 23 = dktX2_nextToken_1 := dk_seg dksX2_nextToken_0 23 rfl rfl
theorem dksX2_nextToken_2 : cX2_nextToken.data.toList.drop 47 = dktX2_nextToken_2 := dk_seg dksX2_nextToken_1 24 rfl rfl
theorem dksX2_nextToken_3 : cX2_nextToken.data.toList.drop 69 = dktX2_nextToken_3 := dk_seg dksX2_nextToken_2 22 rfl rfl
theorem dksX2_nextToken_4 : cX2_nextToken.data.toList.drop 93 = dktX2_nextToken_4 := dk_seg dksX2_nextToken_3 24 rfl rfl
theorem dksX2_nextToken_5 : cX2_nextToken.data.toList.drop 116 = dktX2_nextToken_5 := dk_seg dksX2_nextToken_4 23 rfl rfl
theorem dksX2_nextToken_6 : cX2_nextToken.data.toList.drop 140 = dktX2_nextToken_6 := dk_seg dksX2_nextToken_5 24 rfl rfl
theorem dksX2_nextToken_7 : cX2_nextToken.data.toList.drop 164 = dktX2_nextToken_7 := dk_seg dksX2_nextToken_6 24 rfl rfl
theorem dksX2_nextToken_8 : cX2_nextToken.data.toList.drop 187 = dktX2_nextToken_8 := dk_seg dksX2_nextToken_7 23 rfl rfl
theorem dksX2_nextToken_9 : cX2_nextToken.data.toList.drop 210 = dktX2_nextToken_9 := dk_seg dksX2_nextToken_8 23 rfl rfl
theorem dksX2_nextToken_10 : cX2_nextToken.data.toList.drop 234 = dktX2_nextToken_10 := dk_seg dksX2_nextToken_9 24 rfl rfl
theorem dksX2_nextToken_11 : cX2_nextToken.data.toList.drop 257 = dktX2_nextToken_11 := dk_seg dksX2_nextToken_10 23 rfl rfl
theorem dksX2_nextToken_12 : cX2_nextToken.data.toList.drop 280 = dktX2_nextToken_12 := dk_seg dksX2_nextToken_11 23 rfl rfl
theorem dksX2_nextToken_13 : cX2_nextToken.data.toList.drop 302 = dktX2_nextToken_13 := dk_seg dksX2_nextToken_12 22 rfl rfl
theorem dX2_nextToken_0 : decode cX2_nextToken 0 = .ok (.aload_n 0, 1) := dk_42 (dk_at dksX2_nextToken_0 0 rfl rfl)
theorem dX2_nextToken_1 : decode cX2_nextToken 1 = .ok (.aload_n 0, 1) := dk_42 (dk_at dksX2_nextToken_0 1 rfl rfl)
theorem dX2_nextToken_2 : decode cX2_nextToken 2 = .ok (.getfield 82, 3) := dk_180 0 82 (dk_at dksX2_nextToken_0 2 rfl rfl)
theorem dX2_nextToken_5 : decode cX2_nextToken 5 = .ok (.invokevirtual 85, 3) := dk_182 0 85 (dk_at dksX2_nextToken_0 5 rfl rfl)
theorem dX2_nextToken_8 : decode cX2_nextToken 8 = .ok (.bipush 32, 2) := dk_16 32 (dk_at dksX2_nextToken_0 8 rfl rfl)
theorem dX2_nextToken_10 : decode cX2_nextToken 10 = .ok (.if_icmp .eq 16, 3) := dk_159 0 16 (dk_at dksX2_nextToken_0 10 rfl rfl)
theorem dX2_nextToken_13 : decode cX2_nextToken 13 = .ok (.aload_n 0, 1) := dk_42 (dk_at dksX2_nextToken_0 13 rfl rfl)
theorem dX2_nextToken_14 : decode cX2_nextToken 14 = .ok (.aload_n 0, 1) := dk_42 (dk_at dksX2_nextToken_0 14 rfl rfl)
theorem dX2_nextToken_15 : decode cX2_nextToken 15 = .ok (.getfield 82, 3) := dk_180 0 82 (dk_at dksX2_nextToken_0 15 rfl rfl)
theorem dX2_nextToken_18 : decode cX2_nextToken 18 = .ok (.invokevirtual 85, 3) := dk_182 0 85 (dk_at dksX2_nextToken_0 18 rfl rfl)
theorem dX2_nextToken_21 : decode cX2_nextToken 21 = .ok (.bipush 10, 2) := dk_16 10 (dk_at dksX2_nextToken_0 21 rfl rfl)
theorem dX2_nextToken_23 : decode cX2_nextToken 23 = .ok (.if_icmp .ne 16, 3) := dk_160 0 16 (dk_at dksX2_nextToken_1 0 rfl rfl)
theorem dX2_nextToken_26 : decode cX2_nextToken 26 = .ok (.aload_n 0, 1) := dk_42 (dk_at dksX2_nextToken_1 3 rfl rfl)
theorem dX2_nextToken_27 : decode cX2_nextToken 27 = .ok (.dup, 1) := dk_89 (dk_at dksX2_nextToken_1 4 rfl rfl)
theorem dX2_nextToken_28 : decode cX2_nextToken 28 = .ok (.getfield 82, 3) := dk_180 0 82 (dk_at dksX2_nextToken_1 5 rfl rfl)
theorem dX2_nextToken_31 : decode cX2_nextToken 31 = .ok (.iconst 1, 1) := dk_4 (dk_at dksX2_nextToken_1 8 rfl rfl)
theorem dX2_nextToken_32 : decode cX2_nextToken 32 = .ok (.iadd, 1) := dk_96 (dk_at dksX2_nextToken_1 9 rfl rfl)
theorem dX2_nextToken_33 : decode cX2_nextToken 33 = .ok (.putfield 82, 3) := dk_181 0 82 (dk_at dksX2_nextToken_1 10 rfl rfl)
theorem dX2_nextToken_36 : decode cX2_nextToken 36 = .ok (.goto (-36), 3) := dk_167 255 220 (dk_at dksX2_nextToken_1 13 rfl rfl)
theorem dX2_nextToken_39 : decode cX2_nextToken 39 = .ok (.aload_n 0, 1) := dk_42 (dk_at dksX2_nextToken_1 16 rfl rfl)
theorem dX2_nextToken_40 : decode cX2_nextToken 40 = .ok (.aload_n 0, 1) := dk_42 (dk_at dksX2_nextToken_1 17 rfl rfl)
theorem dX2_nextToken_41 : decode cX2_nextToken 41 = .ok (.getfield 82, 3) := dk_180 0 82 (dk_at dksX2_nextToken_1 18 rfl rfl)
theorem dX2_nextToken_44 : decode cX2_nextToken 44 = .ok (.putfield 89, 3) := dk_181 0 89 (dk_at dksX2_nextToken_1 21 rfl rfl)
theorem dX2_nextToken_47 : decode cX2_nextToken 47 = .ok (.aload_n 0, 1) := dk_42 (dk_at dksX2_nextToken_2 0 rfl rfl)
theorem dX2_nextToken_48 : decode cX2_nextToken 48 = .ok (.aload_n 0, 1) := dk_42 (dk_at dksX2_nextToken_2 1 rfl rfl)
theorem dX2_nextToken_49 : decode cX2_nextToken 49 = .ok (.getfield 82, 3) := dk_180 0 82 (dk_at dksX2_nextToken_2 2 rfl rfl)
theorem dX2_nextToken_52 : decode cX2_nextToken 52 = .ok (.invokevirtual 85, 3) := dk_182 0 85 (dk_at dksX2_nextToken_2 5 rfl rfl)
theorem dX2_nextToken_55 : decode cX2_nextToken 55 = .ok (.istore_n 1, 1) := dk_60 (dk_at dksX2_nextToken_2 8 rfl rfl)
theorem dX2_nextToken_56 : decode cX2_nextToken 56 = .ok (.iload_n 1, 1) := dk_27 (dk_at dksX2_nextToken_2 9 rfl rfl)
theorem dX2_nextToken_57 : decode cX2_nextToken 57 = .ok (.ifCond .ge 11, 3) := dk_156 0 11 (dk_at dksX2_nextToken_2 10 rfl rfl)
theorem dX2_nextToken_60 : decode cX2_nextToken 60 = .ok (.aload_n 0, 1) := dk_42 (dk_at dksX2_nextToken_2 13 rfl rfl)
theorem dX2_nextToken_61 : decode cX2_nextToken 61 = .ok (.iconst 0, 1) := dk_3 (dk_at dksX2_nextToken_2 14 rfl rfl)
theorem dX2_nextToken_62 : decode cX2_nextToken 62 = .ok (.putfield 92, 3) := dk_181 0 92 (dk_at dksX2_nextToken_2 15 rfl rfl)
theorem dX2_nextToken_65 : decode cX2_nextToken 65 = .ok (.goto 245, 3) := dk_167 0 245 (dk_at dksX2_nextToken_2 18 rfl rfl)
theorem dX2_nextToken_68 : decode cX2_nextToken 68 = .ok (.iload_n 1, 1) := dk_27 (dk_at dksX2_nextToken_2 21 rfl rfl)
theorem dX2_nextToken_69 : decode cX2_nextToken 69 = .ok (.invokestatic 95, 3) := dk_184 0 95 (dk_at dksX2_nextToken_3 0 rfl rfl)
theorem dX2_nextToken_72 : decode cX2_nextToken 72 = .ok (.ifCond .eq 79, 3) := dk_153 0 79 (dk_at dksX2_nextToken_3 3 rfl rfl)
theorem dX2_nextToken_75 : decode cX2_nextToken 75 = .ok (.aload_n 0, 1) := dk_42 (dk_at dksX2_nextToken_3 6 rfl rfl)
theorem dX2_nextToken_76 : decode cX2_nextToken 76 = .ok (.iconst 1, 1) := dk_4 (dk_at dksX2_nextToken_3 7 rfl rfl)
theorem dX2_nextToken_77 : decode cX2_nextToken 77 = .ok (.putfield 92, 3) := dk_181 0 92 (dk_at dksX2_nextToken_3 8 rfl rfl)
theorem dX2_nextToken_80 : decode cX2_nextToken 80 = .ok (.aload_n 0, 1) := dk_42 (dk_at dksX2_nextToken_3 11 rfl rfl)
theorem dX2_nextToken_81 : decode cX2_nextToken 81 = .ok (.iconst 0, 1) := dk_3 (dk_at dksX2_nextToken_3 12 rfl rfl)
theorem dX2_nextToken_82 : decode cX2_nextToken 82 = .ok (.putfield 99, 3) := dk_181 0 99 (dk_at dksX2_nextToken_3 13 rfl rfl)
theorem dX2_nextToken_85 : decode cX2_nextToken 85 = .ok (.aload_n 0, 1) := dk_42 (dk_at dksX2_nextToken_3 16 rfl rfl)
theorem dX2_nextToken_86 : decode cX2_nextToken 86 = .ok (.aload_n 0, 1) := dk_42 (dk_at dksX2_nextToken_3 17 rfl rfl)
theorem dX2_nextToken_87 : decode cX2_nextToken 87 = .ok (.getfield 82, 3) := dk_180 0 82 (dk_at dksX2_nextToken_3 18 rfl rfl)
theorem dX2_nextToken_90 : decode cX2_nextToken 90 = .ok (.invokevirtual 85, 3) := dk_182 0 85 (dk_at dksX2_nextToken_3 21 rfl rfl)
theorem dX2_nextToken_93 : decode cX2_nextToken 93 = .ok (.invokestatic 95, 3) := dk_184 0 95 (dk_at dksX2_nextToken_4 0 rfl rfl)
theorem dX2_nextToken_96 : decode cX2_nextToken 96 = .ok (.ifCond .eq 214, 3) := dk_153 0 214 (dk_at dksX2_nextToken_4 3 rfl rfl)
theorem dX2_nextToken_99 : decode cX2_nextToken 99 = .ok (.aload_n 0, 1) := dk_42 (dk_at dksX2_nextToken_4 6 rfl rfl)
theorem dX2_nextToken_100 : decode cX2_nextToken 100 = .ok (.aload_n 0, 1) := dk_42 (dk_at dksX2_nextToken_4 7 rfl rfl)
theorem dX2_nextToken_101 : decode cX2_nextToken 101 = .ok (.getfield 99, 3) := dk_180 0 99 (dk_at dksX2_nextToken_4 8 rfl rfl)
theorem dX2_nextToken_104 : decode cX2_nextToken 104 = .ok (.ldc 102, 2) := dk_18 102 (dk_at dksX2_nextToken_4 11 rfl rfl)
theorem dX2_nextToken_106 : decode cX2_nextToken 106 = .ok (.if_icmp .le 10, 3) := dk_164 0 10 (dk_at dksX2_nextToken_4 13 rfl rfl)
theorem dX2_nextToken_109 : decode cX2_nextToken 109 = .ok (.aload_n 0, 1) := dk_42 (dk_at dksX2_nextToken_4 16 rfl rfl)
theorem dX2_nextToken_110 : decode cX2_nextToken 110 = .ok (.getfield 99, 3) := dk_180 0 99 (dk_at dksX2_nextToken_4 17 rfl rfl)
theorem dX2_nextToken_113 : decode cX2_nextToken 113 = .ok (.goto 22, 3) := dk_167 0 22 (dk_at dksX2_nextToken_4 20 rfl rfl)
theorem dX2_nextToken_116 : decode cX2_nextToken 116 = .ok (.bipush 10, 2) := dk_16 10 (dk_at dksX2_nextToken_5 0 rfl rfl)
theorem dX2_nextToken_118 : decode cX2_nextToken 118 = .ok (.aload_n 0, 1) := dk_42 (dk_at dksX2_nextToken_5 2 rfl rfl)
theorem dX2_nextToken_119 : decode cX2_nextToken 119 = .ok (.getfield 99, 3) := dk_180 0 99 (dk_at dksX2_nextToken_5 3 rfl rfl)
theorem dX2_nextToken_122 : decode cX2_nextToken 122 = .ok (.imul, 1) := dk_104 (dk_at dksX2_nextToken_5 6 rfl rfl)
theorem dX2_nextToken_123 : decode cX2_nextToken 123 = .ok (.aload_n 0, 1) := dk_42 (dk_at dksX2_nextToken_5 7 rfl rfl)
theorem dX2_nextToken_124 : decode cX2_nextToken 124 = .ok (.aload_n 0, 1) := dk_42 (dk_at dksX2_nextToken_5 8 rfl rfl)
theorem dX2_nextToken_125 : decode cX2_nextToken 125 = .ok (.getfield 82, 3) := dk_180 0 82 (dk_at dksX2_nextToken_5 9 rfl rfl)
theorem dX2_nextToken_128 : decode cX2_nextToken 128 = .ok (.invokevirtual 85, 3) := dk_182 0 85 (dk_at dksX2_nextToken_5 12 rfl rfl)
theorem dX2_nextToken_131 : decode cX2_nextToken 131 = .ok (.iadd, 1) := dk_96 (dk_at dksX2_nextToken_5 15 rfl rfl)
theorem dX2_nextToken_132 : decode cX2_nextToken 132 = .ok (.bipush 48, 2) := dk_16 48 (dk_at dksX2_nextToken_5 16 rfl rfl)
theorem dX2_nextToken_134 : decode cX2_nextToken 134 = .ok (.isub, 1) := dk_100 (dk_at dksX2_nextToken_5 18 rfl rfl)
theorem dX2_nextToken_135 : decode cX2_nextToken 135 = .ok (.putfield 99, 3) := dk_181 0 99 (dk_at dksX2_nextToken_5 19 rfl rfl)
theorem dX2_nextToken_138 : decode cX2_nextToken 138 = .ok (.aload_n 0, 1) := dk_42 (dk_at dksX2_nextToken_5 22 rfl rfl)
theorem dX2_nextToken_139 : decode cX2_nextToken 139 = .ok (.dup, 1) := dk_89 (dk_at dksX2_nextToken_5 23 rfl rfl)
theorem dX2_nextToken_140 : decode cX2_nextToken 140 = .ok (.getfield 82, 3) := dk_180 0 82 (dk_at dksX2_nextToken_6 0 rfl rfl)
theorem dX2_nextToken_143 : decode cX2_nextToken 143 = .ok (.iconst 1, 1) := dk_4 (dk_at dksX2_nextToken_6 3 rfl rfl)
theorem dX2_nextToken_144 : decode cX2_nextToken 144 = .ok (.iadd, 1) := dk_96 (dk_at dksX2_nextToken_6 4 rfl rfl)
theorem dX2_nextToken_145 : decode cX2_nextToken 145 = .ok (.putfield 82, 3) := dk_181 0 82 (dk_at dksX2_nextToken_6 5 rfl rfl)
theorem dX2_nextToken_148 : decode cX2_nextToken 148 = .ok (.goto (-63), 3) := dk_167 255 193 (dk_at dksX2_nextToken_6 8 rfl rfl)
theorem dX2_nextToken_151 : decode cX2_nextToken 151 = .ok (.iload_n 1, 1) := dk_27 (dk_at dksX2_nextToken_6 11 rfl rfl)
theorem dX2_nextToken_152 : decode cX2_nextToken 152 = .ok (.invokestatic 103, 3) := dk_184 0 103 (dk_at dksX2_nextToken_6 12 rfl rfl)
theorem dX2_nextToken_155 : decode cX2_nextToken 155 = .ok (.ifCond .eq 79, 3) := dk_153 0 79 (dk_at dksX2_nextToken_6 15 rfl rfl)
theorem dX2_nextToken_158 : decode cX2_nextToken 158 = .ok (.aload_n 0, 1) := dk_42 (dk_at dksX2_nextToken_6 18 rfl rfl)
theorem dX2_nextToken_159 : decode cX2_nextToken 159 = .ok (.iconst 2, 1) := dk_5 (dk_at dksX2_nextToken_6 19 rfl rfl)
theorem dX2_nextToken_160 : decode cX2_nextToken 160 = .ok (.putfield 92, 3) := dk_181 0 92 (dk_at dksX2_nextToken_6 20 rfl rfl)
theorem dX2_nextToken_163 : decode cX2_nextToken 163 = .ok (.aload_n 0, 1) := dk_42 (dk_at dksX2_nextToken_6 23 rfl rfl)
theorem dX2_nextToken_164 : decode cX2_nextToken 164 = .ok (.lconst 0, 1) := dk_9 (dk_at dksX2_nextToken_7 0 rfl rfl)
theorem dX2_nextToken_165 : decode cX2_nextToken 165 = .ok (.putfield 106, 3) := dk_181 0 106 (dk_at dksX2_nextToken_7 1 rfl rfl)
theorem dX2_nextToken_168 : decode cX2_nextToken 168 = .ok (.aload_n 0, 1) := dk_42 (dk_at dksX2_nextToken_7 4 rfl rfl)
theorem dX2_nextToken_169 : decode cX2_nextToken 169 = .ok (.aload_n 0, 1) := dk_42 (dk_at dksX2_nextToken_7 5 rfl rfl)
theorem dX2_nextToken_170 : decode cX2_nextToken 170 = .ok (.getfield 82, 3) := dk_180 0 82 (dk_at dksX2_nextToken_7 6 rfl rfl)
theorem dX2_nextToken_173 : decode cX2_nextToken 173 = .ok (.invokevirtual 85, 3) := dk_182 0 85 (dk_at dksX2_nextToken_7 9 rfl rfl)
theorem dX2_nextToken_176 : decode cX2_nextToken 176 = .ok (.invokestatic 103, 3) := dk_184 0 103 (dk_at dksX2_nextToken_7 12 rfl rfl)
theorem dX2_nextToken_179 : decode cX2_nextToken 179 = .ok (.ifCond .eq 131, 3) := dk_153 0 131 (dk_at dksX2_nextToken_7 15 rfl rfl)
theorem dX2_nextToken_182 : decode cX2_nextToken 182 = .ok (.aload_n 0, 1) := dk_42 (dk_at dksX2_nextToken_7 18 rfl rfl)
theorem dX2_nextToken_183 : decode cX2_nextToken 183 = .ok (.aload_n 0, 1) := dk_42 (dk_at dksX2_nextToken_7 19 rfl rfl)
theorem dX2_nextToken_184 : decode cX2_nextToken 184 = .ok (.getfield 106, 3) := dk_180 0 106 (dk_at dksX2_nextToken_7 20 rfl rfl)
theorem dX2_nextToken_187 : decode cX2_nextToken 187 = .ok (.bipush 48, 2) := dk_16 48 (dk_at dksX2_nextToken_8 0 rfl rfl)
theorem dX2_nextToken_189 : decode cX2_nextToken 189 = .ok (.lshr, 1) := dk_123 (dk_at dksX2_nextToken_8 2 rfl rfl)
theorem dX2_nextToken_190 : decode cX2_nextToken 190 = .ok (.lconst 0, 1) := dk_9 (dk_at dksX2_nextToken_8 3 rfl rfl)
theorem dX2_nextToken_191 : decode cX2_nextToken 191 = .ok (.lcmp, 1) := dk_148 (dk_at dksX2_nextToken_8 4 rfl rfl)
theorem dX2_nextToken_192 : decode cX2_nextToken 192 = .ok (.ifCond .eq 9, 3) := dk_153 0 9 (dk_at dksX2_nextToken_8 5 rfl rfl)
theorem dX2_nextToken_195 : decode cX2_nextToken 195 = .ok (.ldc2_w 110, 3) := dk_20 0 110 (dk_at dksX2_nextToken_8 8 rfl rfl)
theorem dX2_nextToken_198 : decode cX2_nextToken 198 = .ok (.goto 20, 3) := dk_167 0 20 (dk_at dksX2_nextToken_8 11 rfl rfl)
theorem dX2_nextToken_201 : decode cX2_nextToken 201 = .ok (.aload_n 0, 1) := dk_42 (dk_at dksX2_nextToken_8 14 rfl rfl)
theorem dX2_nextToken_202 : decode cX2_nextToken 202 = .ok (.getfield 106, 3) := dk_180 0 106 (dk_at dksX2_nextToken_8 15 rfl rfl)
theorem dX2_nextToken_205 : decode cX2_nextToken 205 = .ok (.bipush 8, 2) := dk_16 8 (dk_at dksX2_nextToken_8 18 rfl rfl)
theorem dX2_nextToken_207 : decode cX2_nextToken 207 = .ok (.lshl, 1) := dk_121 (dk_at dksX2_nextToken_8 20 rfl rfl)
theorem dX2_nextToken_208 : decode cX2_nextToken 208 = .ok (.aload_n 0, 1) := dk_42 (dk_at dksX2_nextToken_8 21 rfl rfl)
theorem dX2_nextToken_209 : decode cX2_nextToken 209 = .ok (.aload_n 0, 1) := dk_42 (dk_at dksX2_nextToken_8 22 rfl rfl)
theorem dX2_nextToken_210 : decode cX2_nextToken 210 = .ok (.getfield 82, 3) := dk_180 0 82 (dk_at dksX2_nextToken_9 0 rfl rfl)
theorem dX2_nextToken_213 : decode cX2_nextToken 213 = .ok (.invokevirtual 85, 3) := dk_182 0 85 (dk_at dksX2_nextToken_9 3 rfl rfl)
theorem dX2_nextToken_216 : decode cX2_nextToken 216 = .ok (.i2l, 1) := dk_133 (dk_at dksX2_nextToken_9 6 rfl rfl)
theorem dX2_nextToken_217 : decode cX2_nextToken 217 = .ok (.lor, 1) := dk_129 (dk_at dksX2_nextToken_9 7 rfl rfl)
theorem dX2_nextToken_218 : decode cX2_nextToken 218 = .ok (.putfield 106, 3) := dk_181 0 106 (dk_at dksX2_nextToken_9 8 rfl rfl)
theorem dX2_nextToken_221 : decode cX2_nextToken 221 = .ok (.aload_n 0, 1) := dk_42 (dk_at dksX2_nextToken_9 11 rfl rfl)
theorem dX2_nextToken_222 : decode cX2_nextToken 222 = .ok (.dup, 1) := dk_89 (dk_at dksX2_nextToken_9 12 rfl rfl)
theorem dX2_nextToken_223 : decode cX2_nextToken 223 = .ok (.getfield 82, 3) := dk_180 0 82 (dk_at dksX2_nextToken_9 13 rfl rfl)
theorem dX2_nextToken_226 : decode cX2_nextToken 226 = .ok (.iconst 1, 1) := dk_4 (dk_at dksX2_nextToken_9 16 rfl rfl)
theorem dX2_nextToken_227 : decode cX2_nextToken 227 = .ok (.iadd, 1) := dk_96 (dk_at dksX2_nextToken_9 17 rfl rfl)
theorem dX2_nextToken_228 : decode cX2_nextToken 228 = .ok (.putfield 82, 3) := dk_181 0 82 (dk_at dksX2_nextToken_9 18 rfl rfl)
theorem dX2_nextToken_231 : decode cX2_nextToken 231 = .ok (.goto (-63), 3) := dk_167 255 193 (dk_at dksX2_nextToken_9 21 rfl rfl)
theorem dX2_nextToken_234 : decode cX2_nextToken 234 = .ok (.aload_n 0, 1) := dk_42 (dk_at dksX2_nextToken_10 0 rfl rfl)
theorem dX2_nextToken_235 : decode cX2_nextToken 235 = .ok (.iload_n 1, 1) := dk_27 (dk_at dksX2_nextToken_10 1 rfl rfl)
theorem dX2_nextToken_236 : decode cX2_nextToken 236 = .ok (.invokestatic 112, 3) := dk_184 0 112 (dk_at dksX2_nextToken_10 2 rfl rfl)
theorem dX2_nextToken_239 : decode cX2_nextToken 239 = .ok (.ifCond .eq 7, 3) := dk_153 0 7 (dk_at dksX2_nextToken_10 5 rfl rfl)
theorem dX2_nextToken_242 : decode cX2_nextToken 242 = .ok (.iload_n 1, 1) := dk_27 (dk_at dksX2_nextToken_10 8 rfl rfl)
theorem dX2_nextToken_243 : decode cX2_nextToken 243 = .ok (.goto 4, 3) := dk_167 0 4 (dk_at dksX2_nextToken_10 9 rfl rfl)
theorem dX2_nextToken_246 : decode cX2_nextToken 246 = .ok (.iconst 3, 1) := dk_6 (dk_at dksX2_nextToken_10 12 rfl rfl)
theorem dX2_nextToken_247 : decode cX2_nextToken 247 = .ok (.putfield 92, 3) := dk_181 0 92 (dk_at dksX2_nextToken_10 13 rfl rfl)
theorem dX2_nextToken_250 : decode cX2_nextToken 250 = .ok (.aload_n 0, 1) := dk_42 (dk_at dksX2_nextToken_10 16 rfl rfl)
theorem dX2_nextToken_251 : decode cX2_nextToken 251 = .ok (.dup, 1) := dk_89 (dk_at dksX2_nextToken_10 17 rfl rfl)
theorem dX2_nextToken_252 : decode cX2_nextToken 252 = .ok (.getfield 82, 3) := dk_180 0 82 (dk_at dksX2_nextToken_10 18 rfl rfl)
theorem dX2_nextToken_255 : decode cX2_nextToken 255 = .ok (.iconst 1, 1) := dk_4 (dk_at dksX2_nextToken_10 21 rfl rfl)
theorem dX2_nextToken_256 : decode cX2_nextToken 256 = .ok (.iadd, 1) := dk_96 (dk_at dksX2_nextToken_10 22 rfl rfl)
theorem dX2_nextToken_257 : decode cX2_nextToken 257 = .ok (.putfield 82, 3) := dk_181 0 82 (dk_at dksX2_nextToken_11 0 rfl rfl)
theorem dX2_nextToken_260 : decode cX2_nextToken 260 = .ok (.iload_n 1, 1) := dk_27 (dk_at dksX2_nextToken_11 3 rfl rfl)
theorem dX2_nextToken_261 : decode cX2_nextToken 261 = .ok (.bipush 60, 2) := dk_16 60 (dk_at dksX2_nextToken_11 4 rfl rfl)
theorem dX2_nextToken_263 : decode cX2_nextToken 263 = .ok (.if_icmp .eq 9, 3) := dk_159 0 9 (dk_at dksX2_nextToken_11 6 rfl rfl)
theorem dX2_nextToken_266 : decode cX2_nextToken 266 = .ok (.iload_n 1, 1) := dk_27 (dk_at dksX2_nextToken_11 9 rfl rfl)
theorem dX2_nextToken_267 : decode cX2_nextToken 267 = .ok (.bipush 62, 2) := dk_16 62 (dk_at dksX2_nextToken_11 10 rfl rfl)
theorem dX2_nextToken_269 : decode cX2_nextToken 269 = .ok (.if_icmp .ne 41, 3) := dk_160 0 41 (dk_at dksX2_nextToken_11 12 rfl rfl)
theorem dX2_nextToken_272 : decode cX2_nextToken 272 = .ok (.aload_n 0, 1) := dk_42 (dk_at dksX2_nextToken_11 15 rfl rfl)
theorem dX2_nextToken_273 : decode cX2_nextToken 273 = .ok (.aload_n 0, 1) := dk_42 (dk_at dksX2_nextToken_11 16 rfl rfl)
theorem dX2_nextToken_274 : decode cX2_nextToken 274 = .ok (.getfield 82, 3) := dk_180 0 82 (dk_at dksX2_nextToken_11 17 rfl rfl)
theorem dX2_nextToken_277 : decode cX2_nextToken 277 = .ok (.invokevirtual 85, 3) := dk_182 0 85 (dk_at dksX2_nextToken_11 20 rfl rfl)
theorem dX2_nextToken_280 : decode cX2_nextToken 280 = .ok (.bipush 61, 2) := dk_16 61 (dk_at dksX2_nextToken_12 0 rfl rfl)
theorem dX2_nextToken_282 : decode cX2_nextToken 282 = .ok (.if_icmp .ne 28, 3) := dk_160 0 28 (dk_at dksX2_nextToken_12 2 rfl rfl)
theorem dX2_nextToken_285 : decode cX2_nextToken 285 = .ok (.aload_n 0, 1) := dk_42 (dk_at dksX2_nextToken_12 5 rfl rfl)
theorem dX2_nextToken_286 : decode cX2_nextToken 286 = .ok (.iload_n 1, 1) := dk_27 (dk_at dksX2_nextToken_12 6 rfl rfl)
theorem dX2_nextToken_287 : decode cX2_nextToken 287 = .ok (.bipush 60, 2) := dk_16 60 (dk_at dksX2_nextToken_12 7 rfl rfl)
theorem dX2_nextToken_289 : decode cX2_nextToken 289 = .ok (.if_icmp .ne 7, 3) := dk_160 0 7 (dk_at dksX2_nextToken_12 9 rfl rfl)
theorem dX2_nextToken_292 : decode cX2_nextToken 292 = .ok (.iconst 4, 1) := dk_7 (dk_at dksX2_nextToken_12 12 rfl rfl)
theorem dX2_nextToken_293 : decode cX2_nextToken 293 = .ok (.goto 4, 3) := dk_167 0 4 (dk_at dksX2_nextToken_12 13 rfl rfl)
theorem dX2_nextToken_296 : decode cX2_nextToken 296 = .ok (.iconst 5, 1) := dk_8 (dk_at dksX2_nextToken_12 16 rfl rfl)
theorem dX2_nextToken_297 : decode cX2_nextToken 297 = .ok (.putfield 92, 3) := dk_181 0 92 (dk_at dksX2_nextToken_12 17 rfl rfl)
theorem dX2_nextToken_300 : decode cX2_nextToken 300 = .ok (.aload_n 0, 1) := dk_42 (dk_at dksX2_nextToken_12 20 rfl rfl)
theorem dX2_nextToken_301 : decode cX2_nextToken 301 = .ok (.dup, 1) := dk_89 (dk_at dksX2_nextToken_12 21 rfl rfl)
theorem dX2_nextToken_302 : decode cX2_nextToken 302 = .ok (.getfield 82, 3) := dk_180 0 82 (dk_at dksX2_nextToken_13 0 rfl rfl)
theorem dX2_nextToken_305 : decode cX2_nextToken 305 = .ok (.iconst 1, 1) := dk_4 (dk_at dksX2_nextToken_13 3 rfl rfl)
theorem dX2_nextToken_306 : decode cX2_nextToken 306 = .ok (.iadd, 1) := dk_96 (dk_at dksX2_nextToken_13 4 rfl rfl)
theorem dX2_nextToken_307 : decode cX2_nextToken 307 = .ok (.putfield 82, 3) := dk_181 0 82 (dk_at dksX2_nextToken_13 5 rfl rfl)
theorem dX2_nextToken_310 : decode cX2_nextToken 310 = .ok (.return_, 1) := dk_177 (dk_at dksX2_nextToken_13 8 rfl rfl)
abbrev cX2_byteAt : ByteArray := prog_19_method_15_code
def yX2_byteAt : MethodName := ⟨RX2, "byteAt", "(I)I"⟩
def dkwX2_byteAt_0 : List UInt8 := [27, 42, 180, 0, 75, 162, 0, 12, 42, 180, 0, 19, 27, 46, 167, 0, 4, 2, 172]
abbrev dktX2_byteAt_0 : List UInt8 := dkwX2_byteAt_0 ++ []
theorem dksX2_byteAt_0 : cX2_byteAt.data.toList.drop 0 = dktX2_byteAt_0 := by decide +kernel
theorem dX2_byteAt_0 : decode cX2_byteAt 0 = .ok (.iload_n 1, 1) := dk_27 (dk_at dksX2_byteAt_0 0 rfl rfl)
theorem dX2_byteAt_1 : decode cX2_byteAt 1 = .ok (.aload_n 0, 1) := dk_42 (dk_at dksX2_byteAt_0 1 rfl rfl)
theorem dX2_byteAt_2 : decode cX2_byteAt 2 = .ok (.getfield 75, 3) := dk_180 0 75 (dk_at dksX2_byteAt_0 2 rfl rfl)
theorem dX2_byteAt_5 : decode cX2_byteAt 5 = .ok (.if_icmp .ge 12, 3) := dk_162 0 12 (dk_at dksX2_byteAt_0 5 rfl rfl)
theorem dX2_byteAt_8 : decode cX2_byteAt 8 = .ok (.aload_n 0, 1) := dk_42 (dk_at dksX2_byteAt_0 8 rfl rfl)
theorem dX2_byteAt_9 : decode cX2_byteAt 9 = .ok (.getfield 19, 3) := dk_180 0 19 (dk_at dksX2_byteAt_0 9 rfl rfl)
theorem dX2_byteAt_12 : decode cX2_byteAt 12 = .ok (.iload_n 1, 1) := dk_27 (dk_at dksX2_byteAt_0 12 rfl rfl)
theorem dX2_byteAt_13 : decode cX2_byteAt 13 = .ok (.iaload, 1) := dk_46 (dk_at dksX2_byteAt_0 13 rfl rfl)
theorem dX2_byteAt_14 : decode cX2_byteAt 14 = .ok (.goto 4, 3) := dk_167 0 4 (dk_at dksX2_byteAt_0 14 rfl rfl)
theorem dX2_byteAt_17 : decode cX2_byteAt 17 = .ok (.iconst (-1), 1) := dk_2 (dk_at dksX2_byteAt_0 17 rfl rfl)
theorem dX2_byteAt_18 : decode cX2_byteAt 18 = .ok (.ireturn, 1) := dk_172 (dk_at dksX2_byteAt_0 18 rfl rfl)
abbrev cX2_isFigure : ByteArray := prog_19_method_17_code
def yX2_isFigure : MethodName := ⟨RX2, "isFigure", "(I)Z"⟩
def dkwX2_isFigure_0 : List UInt8 := [26, 16, 48, 161, 0, 13, 26, 16, 57, 163, 0, 7, 4, 167, 0, 4, 3, 172]
abbrev dktX2_isFigure_0 : List UInt8 := dkwX2_isFigure_0 ++ []
theorem dksX2_isFigure_0 : cX2_isFigure.data.toList.drop 0 = dktX2_isFigure_0 := by decide +kernel
theorem dX2_isFigure_0 : decode cX2_isFigure 0 = .ok (.iload_n 0, 1) := dk_26 (dk_at dksX2_isFigure_0 0 rfl rfl)
theorem dX2_isFigure_1 : decode cX2_isFigure 1 = .ok (.bipush 48, 2) := dk_16 48 (dk_at dksX2_isFigure_0 1 rfl rfl)
theorem dX2_isFigure_3 : decode cX2_isFigure 3 = .ok (.if_icmp .lt 13, 3) := dk_161 0 13 (dk_at dksX2_isFigure_0 3 rfl rfl)
theorem dX2_isFigure_6 : decode cX2_isFigure 6 = .ok (.iload_n 0, 1) := dk_26 (dk_at dksX2_isFigure_0 6 rfl rfl)
theorem dX2_isFigure_7 : decode cX2_isFigure 7 = .ok (.bipush 57, 2) := dk_16 57 (dk_at dksX2_isFigure_0 7 rfl rfl)
theorem dX2_isFigure_9 : decode cX2_isFigure 9 = .ok (.if_icmp .gt 7, 3) := dk_163 0 7 (dk_at dksX2_isFigure_0 9 rfl rfl)
theorem dX2_isFigure_12 : decode cX2_isFigure 12 = .ok (.iconst 1, 1) := dk_4 (dk_at dksX2_isFigure_0 12 rfl rfl)
theorem dX2_isFigure_13 : decode cX2_isFigure 13 = .ok (.goto 4, 3) := dk_167 0 4 (dk_at dksX2_isFigure_0 13 rfl rfl)
theorem dX2_isFigure_16 : decode cX2_isFigure 16 = .ok (.iconst 0, 1) := dk_3 (dk_at dksX2_isFigure_0 16 rfl rfl)
theorem dX2_isFigure_17 : decode cX2_isFigure 17 = .ok (.ireturn, 1) := dk_172 (dk_at dksX2_isFigure_0 17 rfl rfl)
abbrev cX2_isLetterByte : ByteArray := prog_19_method_16_code
def yX2_isLetterByte : MethodName := ⟨RX2, "isLetterByte", "(I)Z"⟩
def dkwX2_isLetterByte_1 : List UInt8 := [4, 167, 0, 4, 3, 172]
abbrev dktX2_isLetterByte_1 : List UInt8 := dkwX2_isLetterByte_1 ++ []
def dkwX2_isLetterByte_0 : List UInt8 := [26, 16, 97, 161, 0, 9, 26, 16, 122, 164, 0, 15, 26, 16, 65, 161, 0, 13, 26, 16, 90, 163, 0, 7]
abbrev dktX2_isLetterByte_0 : List UInt8 := dkwX2_isLetterByte_0 ++ dktX2_isLetterByte_1
theorem dksX2_isLetterByte_0 : cX2_isLetterByte.data.toList.drop 0 = dktX2_isLetterByte_0 := by decide +kernel
theorem dksX2_isLetterByte_1 : cX2_isLetterByte.data.toList.drop 24 = dktX2_isLetterByte_1 := dk_seg dksX2_isLetterByte_0 24 rfl rfl
theorem dX2_isLetterByte_0 : decode cX2_isLetterByte 0 = .ok (.iload_n 0, 1) := dk_26 (dk_at dksX2_isLetterByte_0 0 rfl rfl)
theorem dX2_isLetterByte_1 : decode cX2_isLetterByte 1 = .ok (.bipush 97, 2) := dk_16 97 (dk_at dksX2_isLetterByte_0 1 rfl rfl)
theorem dX2_isLetterByte_3 : decode cX2_isLetterByte 3 = .ok (.if_icmp .lt 9, 3) := dk_161 0 9 (dk_at dksX2_isLetterByte_0 3 rfl rfl)
theorem dX2_isLetterByte_6 : decode cX2_isLetterByte 6 = .ok (.iload_n 0, 1) := dk_26 (dk_at dksX2_isLetterByte_0 6 rfl rfl)
theorem dX2_isLetterByte_7 : decode cX2_isLetterByte 7 = .ok (.bipush 122, 2) := dk_16 122 (dk_at dksX2_isLetterByte_0 7 rfl rfl)
theorem dX2_isLetterByte_9 : decode cX2_isLetterByte 9 = .ok (.if_icmp .le 15, 3) := dk_164 0 15 (dk_at dksX2_isLetterByte_0 9 rfl rfl)
theorem dX2_isLetterByte_12 : decode cX2_isLetterByte 12 = .ok (.iload_n 0, 1) := dk_26 (dk_at dksX2_isLetterByte_0 12 rfl rfl)
theorem dX2_isLetterByte_13 : decode cX2_isLetterByte 13 = .ok (.bipush 65, 2) := dk_16 65 (dk_at dksX2_isLetterByte_0 13 rfl rfl)
theorem dX2_isLetterByte_15 : decode cX2_isLetterByte 15 = .ok (.if_icmp .lt 13, 3) := dk_161 0 13 (dk_at dksX2_isLetterByte_0 15 rfl rfl)
theorem dX2_isLetterByte_18 : decode cX2_isLetterByte 18 = .ok (.iload_n 0, 1) := dk_26 (dk_at dksX2_isLetterByte_0 18 rfl rfl)
theorem dX2_isLetterByte_19 : decode cX2_isLetterByte 19 = .ok (.bipush 90, 2) := dk_16 90 (dk_at dksX2_isLetterByte_0 19 rfl rfl)
theorem dX2_isLetterByte_21 : decode cX2_isLetterByte 21 = .ok (.if_icmp .gt 7, 3) := dk_163 0 7 (dk_at dksX2_isLetterByte_0 21 rfl rfl)
theorem dX2_isLetterByte_24 : decode cX2_isLetterByte 24 = .ok (.iconst 1, 1) := dk_4 (dk_at dksX2_isLetterByte_1 0 rfl rfl)
theorem dX2_isLetterByte_25 : decode cX2_isLetterByte 25 = .ok (.goto 4, 3) := dk_167 0 4 (dk_at dksX2_isLetterByte_1 1 rfl rfl)
theorem dX2_isLetterByte_28 : decode cX2_isLetterByte 28 = .ok (.iconst 0, 1) := dk_3 (dk_at dksX2_isLetterByte_1 4 rfl rfl)
theorem dX2_isLetterByte_29 : decode cX2_isLetterByte 29 = .ok (.ireturn, 1) := dk_172 (dk_at dksX2_isLetterByte_1 5 rfl rfl)
abbrev cX2_isSign : ByteArray := prog_19_method_18_code
def yX2_isSign : MethodName := ⟨RX2, "isSign", "(I)Z"⟩
def dkwX2_isSign_2 : List UInt8 := [4, 172, 3, 172]
abbrev dktX2_isSign_2 : List UInt8 := dkwX2_isSign_2 ++ []
def dkwX2_isSign_1 : List UInt8 := [170, 0, 0, 0, 0, 0, 129, 0, 0, 0, 35, 0, 0, 0, 62, 0, 0, 0, 127, 0, 0, 0, 129, 0, 0, 0, 129, 0, 0, 0, 129, 0, 0, 0, 129, 0, 0, 0, 127, 0, 0, 0, 127, 0, 0, 0, 127, 0, 0, 0, 127, 0, 0, 0, 129, 0, 0, 0, 127, 0, 0, 0, 129, 0, 0, 0, 127, 0, 0, 0, 129, 0, 0, 0, 129, 0, 0, 0, 129, 0, 0, 0, 129, 0, 0, 0, 129, 0, 0, 0, 129, 0, 0, 0, 129, 0, 0, 0, 129, 0, 0, 0, 129, 0, 0, 0, 129, 0, 0, 0, 129, 0, 0, 0, 127, 0, 0, 0, 127, 0, 0, 0, 127, 0, 0, 0, 127]
abbrev dktX2_isSign_1 : List UInt8 := dkwX2_isSign_1 ++ dktX2_isSign_2
def dkwX2_isSign_0 : List UInt8 := [26]
abbrev dktX2_isSign_0 : List UInt8 := dkwX2_isSign_0 ++ dktX2_isSign_1
theorem dksX2_isSign_0 : cX2_isSign.data.toList.drop 0 = dktX2_isSign_0 := by decide +kernel
theorem dksX2_isSign_1 : cX2_isSign.data.toList.drop 1 = dktX2_isSign_1 := dk_seg dksX2_isSign_0 1 rfl rfl
theorem dksX2_isSign_2 : cX2_isSign.data.toList.drop 128 = dktX2_isSign_2 := dk_seg dksX2_isSign_1 127 rfl rfl
theorem dX2_isSign_0 : decode cX2_isSign 0 = .ok (.iload_n 0, 1) := dk_26 (dk_at dksX2_isSign_0 0 rfl rfl)
theorem dX2_isSign_1 : decode cX2_isSign 1 = .ok (.tableswitch 129 35 62 #[127, 129, 129, 129, 129, 127, 127, 127, 127, 129, 127, 129, 127, 129, 129, 129, 129, 129, 129, 129, 129, 129, 129, 129, 127, 127, 127, 127], 127) := by decide +kernel
theorem dX2_isSign_128 : decode cX2_isSign 128 = .ok (.iconst 1, 1) := dk_4 (dk_at dksX2_isSign_2 0 rfl rfl)
theorem dX2_isSign_129 : decode cX2_isSign 129 = .ok (.ireturn, 1) := dk_172 (dk_at dksX2_isSign_2 1 rfl rfl)
theorem dX2_isSign_130 : decode cX2_isSign 130 = .ok (.iconst 0, 1) := dk_3 (dk_at dksX2_isSign_2 2 rfl rfl)
theorem dX2_isSign_131 : decode cX2_isSign 131 = .ok (.ireturn, 1) := dk_172 (dk_at dksX2_isSign_2 3 rfl rfl)
abbrev cX2_clause : ByteArray := prog_19_method_51_code
def yX2_clause : MethodName := ⟨RX2, "clause", "()I"⟩
def dkwX2_clause_5 : List UInt8 := [4, 96, 79, 42, 180, 0, 92, 16, 59, 159, 0, 5, 4, 172, 42, 182, 0, 164, 3, 172]
abbrev dktX2_clause_5 : List UInt8 := dkwX2_clause_5 ++ []
def dkwX2_clause_4 : List UInt8 := [29, 182, 0, 245, 54, 4, 21, 4, 153, 0, 6, 21, 4, 172, 42, 180, 0, 16, 42, 180, 0, 131, 92, 46]
abbrev dktX2_clause_4 : List UInt8 := dkwX2_clause_4 ++ dktX2_clause_5
def dkwX2_clause_3 : List UInt8 := [182, 0, 164, 42, 180, 0, 131, 4, 96, 16, 6, 28, 104, 96, 62, 42, 180, 0, 16, 29, 27, 79, 42, 27]
abbrev dktX2_clause_3 : List UInt8 := dkwX2_clause_3 ++ dktX2_clause_4
def dkwX2_clause_2 : List UInt8 := [27, 7, 163, 0, 15, 42, 89, 180, 0, 238, 4, 27, 120, 128, 181, 0, 238, 42, 27, 181, 0, 141, 42]
abbrev dktX2_clause_2 : List UInt8 := dkwX2_clause_2 ++ dktX2_clause_3
def dkwX2_clause_1 : List UInt8 := [153, 0, 5, 7, 172, 42, 180, 0, 16, 42, 180, 0, 131, 46, 61, 28, 16, 24, 160, 0, 6, 16, 6, 172]
abbrev dktX2_clause_1 : List UInt8 := dkwX2_clause_1 ++ dktX2_clause_2
def dkwX2_clause_0 : List UInt8 := [42, 182, 0, 235, 60, 27, 156, 0, 5, 4, 172, 27, 7, 163, 0, 16, 42, 180, 0, 238, 27, 184, 0, 241]
abbrev dktX2_clause_0 : List UInt8 := dkwX2_clause_0 ++ dktX2_clause_1
theorem dksX2_clause_0 : cX2_clause.data.toList.drop 0 = dktX2_clause_0 := by decide +kernel
theorem dksX2_clause_1 : cX2_clause.data.toList.drop 24 = dktX2_clause_1 := dk_seg dksX2_clause_0 24 rfl rfl
theorem dksX2_clause_2 : cX2_clause.data.toList.drop 48 = dktX2_clause_2 := dk_seg dksX2_clause_1 24 rfl rfl
theorem dksX2_clause_3 : cX2_clause.data.toList.drop 71 = dktX2_clause_3 := dk_seg dksX2_clause_2 23 rfl rfl
theorem dksX2_clause_4 : cX2_clause.data.toList.drop 95 = dktX2_clause_4 := dk_seg dksX2_clause_3 24 rfl rfl
theorem dksX2_clause_5 : cX2_clause.data.toList.drop 119 = dktX2_clause_5 := dk_seg dksX2_clause_4 24 rfl rfl
theorem dX2_clause_0 : decode cX2_clause 0 = .ok (.aload_n 0, 1) := dk_42 (dk_at dksX2_clause_0 0 rfl rfl)
theorem dX2_clause_1 : decode cX2_clause 1 = .ok (.invokevirtual 235, 3) := dk_182 0 235 (dk_at dksX2_clause_0 1 rfl rfl)
theorem dX2_clause_4 : decode cX2_clause 4 = .ok (.istore_n 1, 1) := dk_60 (dk_at dksX2_clause_0 4 rfl rfl)
theorem dX2_clause_5 : decode cX2_clause 5 = .ok (.iload_n 1, 1) := dk_27 (dk_at dksX2_clause_0 5 rfl rfl)
theorem dX2_clause_6 : decode cX2_clause 6 = .ok (.ifCond .ge 5, 3) := dk_156 0 5 (dk_at dksX2_clause_0 6 rfl rfl)
theorem dX2_clause_9 : decode cX2_clause 9 = .ok (.iconst 1, 1) := dk_4 (dk_at dksX2_clause_0 9 rfl rfl)
theorem dX2_clause_10 : decode cX2_clause 10 = .ok (.ireturn, 1) := dk_172 (dk_at dksX2_clause_0 10 rfl rfl)
theorem dX2_clause_11 : decode cX2_clause 11 = .ok (.iload_n 1, 1) := dk_27 (dk_at dksX2_clause_0 11 rfl rfl)
theorem dX2_clause_12 : decode cX2_clause 12 = .ok (.iconst 4, 1) := dk_7 (dk_at dksX2_clause_0 12 rfl rfl)
theorem dX2_clause_13 : decode cX2_clause 13 = .ok (.if_icmp .gt 16, 3) := dk_163 0 16 (dk_at dksX2_clause_0 13 rfl rfl)
theorem dX2_clause_16 : decode cX2_clause 16 = .ok (.aload_n 0, 1) := dk_42 (dk_at dksX2_clause_0 16 rfl rfl)
theorem dX2_clause_17 : decode cX2_clause 17 = .ok (.getfield 238, 3) := dk_180 0 238 (dk_at dksX2_clause_0 17 rfl rfl)
theorem dX2_clause_20 : decode cX2_clause 20 = .ok (.iload_n 1, 1) := dk_27 (dk_at dksX2_clause_0 20 rfl rfl)
theorem dX2_clause_21 : decode cX2_clause 21 = .ok (.invokestatic 241, 3) := dk_184 0 241 (dk_at dksX2_clause_0 21 rfl rfl)
theorem dX2_clause_24 : decode cX2_clause 24 = .ok (.ifCond .eq 5, 3) := dk_153 0 5 (dk_at dksX2_clause_1 0 rfl rfl)
theorem dX2_clause_27 : decode cX2_clause 27 = .ok (.iconst 4, 1) := dk_7 (dk_at dksX2_clause_1 3 rfl rfl)
theorem dX2_clause_28 : decode cX2_clause 28 = .ok (.ireturn, 1) := dk_172 (dk_at dksX2_clause_1 4 rfl rfl)
theorem dX2_clause_29 : decode cX2_clause 29 = .ok (.aload_n 0, 1) := dk_42 (dk_at dksX2_clause_1 5 rfl rfl)
theorem dX2_clause_30 : decode cX2_clause 30 = .ok (.getfield 16, 3) := dk_180 0 16 (dk_at dksX2_clause_1 6 rfl rfl)
theorem dX2_clause_33 : decode cX2_clause 33 = .ok (.aload_n 0, 1) := dk_42 (dk_at dksX2_clause_1 9 rfl rfl)
theorem dX2_clause_34 : decode cX2_clause 34 = .ok (.getfield 131, 3) := dk_180 0 131 (dk_at dksX2_clause_1 10 rfl rfl)
theorem dX2_clause_37 : decode cX2_clause 37 = .ok (.iaload, 1) := dk_46 (dk_at dksX2_clause_1 13 rfl rfl)
theorem dX2_clause_38 : decode cX2_clause 38 = .ok (.istore_n 2, 1) := dk_61 (dk_at dksX2_clause_1 14 rfl rfl)
theorem dX2_clause_39 : decode cX2_clause 39 = .ok (.iload_n 2, 1) := dk_28 (dk_at dksX2_clause_1 15 rfl rfl)
theorem dX2_clause_40 : decode cX2_clause 40 = .ok (.bipush 24, 2) := dk_16 24 (dk_at dksX2_clause_1 16 rfl rfl)
theorem dX2_clause_42 : decode cX2_clause 42 = .ok (.if_icmp .ne 6, 3) := dk_160 0 6 (dk_at dksX2_clause_1 18 rfl rfl)
theorem dX2_clause_45 : decode cX2_clause 45 = .ok (.bipush 6, 2) := dk_16 6 (dk_at dksX2_clause_1 21 rfl rfl)
theorem dX2_clause_47 : decode cX2_clause 47 = .ok (.ireturn, 1) := dk_172 (dk_at dksX2_clause_1 23 rfl rfl)
theorem dX2_clause_48 : decode cX2_clause 48 = .ok (.iload_n 1, 1) := dk_27 (dk_at dksX2_clause_2 0 rfl rfl)
theorem dX2_clause_49 : decode cX2_clause 49 = .ok (.iconst 4, 1) := dk_7 (dk_at dksX2_clause_2 1 rfl rfl)
theorem dX2_clause_50 : decode cX2_clause 50 = .ok (.if_icmp .gt 15, 3) := dk_163 0 15 (dk_at dksX2_clause_2 2 rfl rfl)
theorem dX2_clause_53 : decode cX2_clause 53 = .ok (.aload_n 0, 1) := dk_42 (dk_at dksX2_clause_2 5 rfl rfl)
theorem dX2_clause_54 : decode cX2_clause 54 = .ok (.dup, 1) := dk_89 (dk_at dksX2_clause_2 6 rfl rfl)
theorem dX2_clause_55 : decode cX2_clause 55 = .ok (.getfield 238, 3) := dk_180 0 238 (dk_at dksX2_clause_2 7 rfl rfl)
theorem dX2_clause_58 : decode cX2_clause 58 = .ok (.iconst 1, 1) := dk_4 (dk_at dksX2_clause_2 10 rfl rfl)
theorem dX2_clause_59 : decode cX2_clause 59 = .ok (.iload_n 1, 1) := dk_27 (dk_at dksX2_clause_2 11 rfl rfl)
theorem dX2_clause_60 : decode cX2_clause 60 = .ok (.ishl, 1) := dk_120 (dk_at dksX2_clause_2 12 rfl rfl)
theorem dX2_clause_61 : decode cX2_clause 61 = .ok (.ior, 1) := dk_128 (dk_at dksX2_clause_2 13 rfl rfl)
theorem dX2_clause_62 : decode cX2_clause 62 = .ok (.putfield 238, 3) := dk_181 0 238 (dk_at dksX2_clause_2 14 rfl rfl)
theorem dX2_clause_65 : decode cX2_clause 65 = .ok (.aload_n 0, 1) := dk_42 (dk_at dksX2_clause_2 17 rfl rfl)
theorem dX2_clause_66 : decode cX2_clause 66 = .ok (.iload_n 1, 1) := dk_27 (dk_at dksX2_clause_2 18 rfl rfl)
theorem dX2_clause_67 : decode cX2_clause 67 = .ok (.putfield 141, 3) := dk_181 0 141 (dk_at dksX2_clause_2 19 rfl rfl)
theorem dX2_clause_70 : decode cX2_clause 70 = .ok (.aload_n 0, 1) := dk_42 (dk_at dksX2_clause_2 22 rfl rfl)
theorem dX2_clause_71 : decode cX2_clause 71 = .ok (.invokevirtual 164, 3) := dk_182 0 164 (dk_at dksX2_clause_3 0 rfl rfl)
theorem dX2_clause_74 : decode cX2_clause 74 = .ok (.aload_n 0, 1) := dk_42 (dk_at dksX2_clause_3 3 rfl rfl)
theorem dX2_clause_75 : decode cX2_clause 75 = .ok (.getfield 131, 3) := dk_180 0 131 (dk_at dksX2_clause_3 4 rfl rfl)
theorem dX2_clause_78 : decode cX2_clause 78 = .ok (.iconst 1, 1) := dk_4 (dk_at dksX2_clause_3 7 rfl rfl)
theorem dX2_clause_79 : decode cX2_clause 79 = .ok (.iadd, 1) := dk_96 (dk_at dksX2_clause_3 8 rfl rfl)
theorem dX2_clause_80 : decode cX2_clause 80 = .ok (.bipush 6, 2) := dk_16 6 (dk_at dksX2_clause_3 9 rfl rfl)
theorem dX2_clause_82 : decode cX2_clause 82 = .ok (.iload_n 2, 1) := dk_28 (dk_at dksX2_clause_3 11 rfl rfl)
theorem dX2_clause_83 : decode cX2_clause 83 = .ok (.imul, 1) := dk_104 (dk_at dksX2_clause_3 12 rfl rfl)
theorem dX2_clause_84 : decode cX2_clause 84 = .ok (.iadd, 1) := dk_96 (dk_at dksX2_clause_3 13 rfl rfl)
theorem dX2_clause_85 : decode cX2_clause 85 = .ok (.istore_n 3, 1) := dk_62 (dk_at dksX2_clause_3 14 rfl rfl)
theorem dX2_clause_86 : decode cX2_clause 86 = .ok (.aload_n 0, 1) := dk_42 (dk_at dksX2_clause_3 15 rfl rfl)
theorem dX2_clause_87 : decode cX2_clause 87 = .ok (.getfield 16, 3) := dk_180 0 16 (dk_at dksX2_clause_3 16 rfl rfl)
theorem dX2_clause_90 : decode cX2_clause 90 = .ok (.iload_n 3, 1) := dk_29 (dk_at dksX2_clause_3 19 rfl rfl)
theorem dX2_clause_91 : decode cX2_clause 91 = .ok (.iload_n 1, 1) := dk_27 (dk_at dksX2_clause_3 20 rfl rfl)
theorem dX2_clause_92 : decode cX2_clause 92 = .ok (.iastore, 1) := dk_79 (dk_at dksX2_clause_3 21 rfl rfl)
theorem dX2_clause_93 : decode cX2_clause 93 = .ok (.aload_n 0, 1) := dk_42 (dk_at dksX2_clause_3 22 rfl rfl)
theorem dX2_clause_94 : decode cX2_clause 94 = .ok (.iload_n 1, 1) := dk_27 (dk_at dksX2_clause_3 23 rfl rfl)
theorem dX2_clause_95 : decode cX2_clause 95 = .ok (.iload_n 3, 1) := dk_29 (dk_at dksX2_clause_4 0 rfl rfl)
theorem dX2_clause_96 : decode cX2_clause 96 = .ok (.invokevirtual 245, 3) := dk_182 0 245 (dk_at dksX2_clause_4 1 rfl rfl)
theorem dX2_clause_99 : decode cX2_clause 99 = .ok (.istore 4, 2) := dk_54 4 (dk_at dksX2_clause_4 4 rfl rfl)
theorem dX2_clause_101 : decode cX2_clause 101 = .ok (.iload 4, 2) := dk_21 4 (dk_at dksX2_clause_4 6 rfl rfl)
theorem dX2_clause_103 : decode cX2_clause 103 = .ok (.ifCond .eq 6, 3) := dk_153 0 6 (dk_at dksX2_clause_4 8 rfl rfl)
theorem dX2_clause_106 : decode cX2_clause 106 = .ok (.iload 4, 2) := dk_21 4 (dk_at dksX2_clause_4 11 rfl rfl)
theorem dX2_clause_108 : decode cX2_clause 108 = .ok (.ireturn, 1) := dk_172 (dk_at dksX2_clause_4 13 rfl rfl)
theorem dX2_clause_109 : decode cX2_clause 109 = .ok (.aload_n 0, 1) := dk_42 (dk_at dksX2_clause_4 14 rfl rfl)
theorem dX2_clause_110 : decode cX2_clause 110 = .ok (.getfield 16, 3) := dk_180 0 16 (dk_at dksX2_clause_4 15 rfl rfl)
theorem dX2_clause_113 : decode cX2_clause 113 = .ok (.aload_n 0, 1) := dk_42 (dk_at dksX2_clause_4 18 rfl rfl)
theorem dX2_clause_114 : decode cX2_clause 114 = .ok (.getfield 131, 3) := dk_180 0 131 (dk_at dksX2_clause_4 19 rfl rfl)
theorem dX2_clause_117 : decode cX2_clause 117 = .ok (.dup2, 1) := dk_92 (dk_at dksX2_clause_4 22 rfl rfl)
theorem dX2_clause_118 : decode cX2_clause 118 = .ok (.iaload, 1) := dk_46 (dk_at dksX2_clause_4 23 rfl rfl)
theorem dX2_clause_119 : decode cX2_clause 119 = .ok (.iconst 1, 1) := dk_4 (dk_at dksX2_clause_5 0 rfl rfl)
theorem dX2_clause_120 : decode cX2_clause 120 = .ok (.iadd, 1) := dk_96 (dk_at dksX2_clause_5 1 rfl rfl)
theorem dX2_clause_121 : decode cX2_clause 121 = .ok (.iastore, 1) := dk_79 (dk_at dksX2_clause_5 2 rfl rfl)
theorem dX2_clause_122 : decode cX2_clause 122 = .ok (.aload_n 0, 1) := dk_42 (dk_at dksX2_clause_5 3 rfl rfl)
theorem dX2_clause_123 : decode cX2_clause 123 = .ok (.getfield 92, 3) := dk_180 0 92 (dk_at dksX2_clause_5 4 rfl rfl)
theorem dX2_clause_126 : decode cX2_clause 126 = .ok (.bipush 59, 2) := dk_16 59 (dk_at dksX2_clause_5 7 rfl rfl)
theorem dX2_clause_128 : decode cX2_clause 128 = .ok (.if_icmp .eq 5, 3) := dk_159 0 5 (dk_at dksX2_clause_5 9 rfl rfl)
theorem dX2_clause_131 : decode cX2_clause 131 = .ok (.iconst 1, 1) := dk_4 (dk_at dksX2_clause_5 12 rfl rfl)
theorem dX2_clause_132 : decode cX2_clause 132 = .ok (.ireturn, 1) := dk_172 (dk_at dksX2_clause_5 13 rfl rfl)
theorem dX2_clause_133 : decode cX2_clause 133 = .ok (.aload_n 0, 1) := dk_42 (dk_at dksX2_clause_5 14 rfl rfl)
theorem dX2_clause_134 : decode cX2_clause 134 = .ok (.invokevirtual 164, 3) := dk_182 0 164 (dk_at dksX2_clause_5 15 rfl rfl)
theorem dX2_clause_137 : decode cX2_clause 137 = .ok (.iconst 0, 1) := dk_3 (dk_at dksX2_clause_5 18 rfl rfl)
theorem dX2_clause_138 : decode cX2_clause 138 = .ok (.ireturn, 1) := dk_172 (dk_at dksX2_clause_5 19 rfl rfl)
abbrev cX2_sortOf : ByteArray := prog_19_method_50_code
def yX2_sortOf : MethodName := ⟨RX2, "sortOf", "()I"⟩
def dkwX2_sortOf_11 : List UInt8 := [172]
abbrev dktX2_sortOf_11 : List UInt8 := dkwX2_sortOf_11 ++ []
def dkwX2_sortOf_10 : List UInt8 := [42, 16, 108, 16, 97, 16, 110, 16, 100, 184, 0, 123, 182, 0, 183, 153, 0, 8, 16, 11, 167, 0, 4, 2]
abbrev dktX2_sortOf_10 : List UInt8 := dkwX2_sortOf_10 ++ dktX2_sortOf_11
def dkwX2_sortOf_9 : List UInt8 := [172, 42, 16, 104, 16, 111, 16, 111, 16, 107, 184, 0, 123, 182, 0, 183, 153, 0, 8, 16, 10, 167, 0, 27]
abbrev dktX2_sortOf_9 : List UInt8 := dkwX2_sortOf_9 ++ dktX2_sortOf_10
def dkwX2_sortOf_8 : List UInt8 := [153, 0, 6, 16, 8, 172, 42, 16, 97, 16, 105, 16, 109, 184, 0, 119, 182, 0, 183, 153, 0, 6, 16, 9]
abbrev dktX2_sortOf_8 : List UInt8 := dkwX2_sortOf_8 ++ dktX2_sortOf_9
def dkwX2_sortOf_7 : List UInt8 := [182, 0, 183, 153, 0, 6, 16, 7, 172, 42, 16, 114, 16, 111, 16, 112, 16, 101, 184, 0, 123, 182, 0, 183]
abbrev dktX2_sortOf_7 : List UInt8 := dkwX2_sortOf_7 ++ dktX2_sortOf_8
def dkwX2_sortOf_6 : List UInt8 := [184, 0, 123, 182, 0, 183, 153, 0, 6, 16, 6, 172, 42, 16, 114, 16, 117, 16, 110, 184, 0, 119]
abbrev dktX2_sortOf_6 : List UInt8 := dkwX2_sortOf_6 ++ dktX2_sortOf_7
def dkwX2_sortOf_5 : List UInt8 := [16, 114, 184, 0, 127, 182, 0, 183, 153, 0, 5, 8, 172, 42, 16, 109, 16, 111, 16, 118, 16, 101]
abbrev dktX2_sortOf_5 : List UInt8 := dkwX2_sortOf_5 ++ dktX2_sortOf_6
def dkwX2_sortOf_4 : List UInt8 := [16, 116, 16, 115, 184, 0, 127, 182, 0, 183, 153, 0, 5, 7, 172, 42, 16, 111, 16, 114, 16, 100, 16, 101]
abbrev dktX2_sortOf_4 : List UInt8 := dkwX2_sortOf_4 ++ dktX2_sortOf_5
def dkwX2_sortOf_3 : List UInt8 := [16, 108, 16, 100, 16, 115, 184, 0, 127, 182, 0, 183, 153, 0, 5, 6, 172, 42, 16, 108, 16, 97, 16, 115]
abbrev dktX2_sortOf_3 : List UInt8 := dkwX2_sortOf_3 ++ dktX2_sortOf_4
def dkwX2_sortOf_2 : List UInt8 := [16, 104, 16, 97, 16, 110, 16, 100, 184, 0, 123, 182, 0, 183, 153, 0, 5, 5, 172, 42, 16, 104, 16, 111]
abbrev dktX2_sortOf_2 : List UInt8 := dkwX2_sortOf_2 ++ dktX2_sortOf_3
def dkwX2_sortOf_1 : List UInt8 := [16, 115, 16, 119, 16, 105, 16, 110, 16, 103, 16, 115, 184, 0, 137, 182, 0, 183, 153, 0, 5, 4, 172, 42]
abbrev dktX2_sortOf_1 : List UInt8 := dkwX2_sortOf_1 ++ dktX2_sortOf_2
def dkwX2_sortOf_0 : List UInt8 := [42, 16, 112, 16, 97, 16, 99, 16, 101, 16, 115, 184, 0, 127, 182, 0, 183, 153, 0, 5, 3, 172, 42]
abbrev dktX2_sortOf_0 : List UInt8 := dkwX2_sortOf_0 ++ dktX2_sortOf_1
theorem dksX2_sortOf_0 : cX2_sortOf.data.toList.drop 0 = dktX2_sortOf_0 := by decide +kernel
theorem dksX2_sortOf_1 : cX2_sortOf.data.toList.drop 23 = dktX2_sortOf_1 := dk_seg dksX2_sortOf_0 23 rfl rfl
theorem dksX2_sortOf_2 : cX2_sortOf.data.toList.drop 47 = dktX2_sortOf_2 := dk_seg dksX2_sortOf_1 24 rfl rfl
theorem dksX2_sortOf_3 : cX2_sortOf.data.toList.drop 71 = dktX2_sortOf_3 := dk_seg dksX2_sortOf_2 24 rfl rfl
theorem dksX2_sortOf_4 : cX2_sortOf.data.toList.drop 95 = dktX2_sortOf_4 := dk_seg dksX2_sortOf_3 24 rfl rfl
theorem dksX2_sortOf_5 : cX2_sortOf.data.toList.drop 119 = dktX2_sortOf_5 := dk_seg dksX2_sortOf_4 24 rfl rfl
theorem dksX2_sortOf_6 : cX2_sortOf.data.toList.drop 141 = dktX2_sortOf_6 := dk_seg dksX2_sortOf_5 22 rfl rfl
theorem dksX2_sortOf_7 : cX2_sortOf.data.toList.drop 163 = dktX2_sortOf_7 := dk_seg dksX2_sortOf_6 22 rfl rfl
theorem dksX2_sortOf_8 : cX2_sortOf.data.toList.drop 187 = dktX2_sortOf_8 := dk_seg dksX2_sortOf_7 24 rfl rfl
theorem dksX2_sortOf_9 : cX2_sortOf.data.toList.drop 211 = dktX2_sortOf_9 := dk_seg dksX2_sortOf_8 24 rfl rfl
theorem dksX2_sortOf_10 : cX2_sortOf.data.toList.drop 235 = dktX2_sortOf_10 := dk_seg dksX2_sortOf_9 24 rfl rfl
theorem dksX2_sortOf_11 : cX2_sortOf.data.toList.drop 259 = dktX2_sortOf_11 := dk_seg dksX2_sortOf_10 24 rfl rfl
theorem dX2_sortOf_0 : decode cX2_sortOf 0 = .ok (.aload_n 0, 1) := dk_42 (dk_at dksX2_sortOf_0 0 rfl rfl)
theorem dX2_sortOf_1 : decode cX2_sortOf 1 = .ok (.bipush 112, 2) := dk_16 112 (dk_at dksX2_sortOf_0 1 rfl rfl)
theorem dX2_sortOf_3 : decode cX2_sortOf 3 = .ok (.bipush 97, 2) := dk_16 97 (dk_at dksX2_sortOf_0 3 rfl rfl)
theorem dX2_sortOf_5 : decode cX2_sortOf 5 = .ok (.bipush 99, 2) := dk_16 99 (dk_at dksX2_sortOf_0 5 rfl rfl)
theorem dX2_sortOf_7 : decode cX2_sortOf 7 = .ok (.bipush 101, 2) := dk_16 101 (dk_at dksX2_sortOf_0 7 rfl rfl)
theorem dX2_sortOf_9 : decode cX2_sortOf 9 = .ok (.bipush 115, 2) := dk_16 115 (dk_at dksX2_sortOf_0 9 rfl rfl)
theorem dX2_sortOf_11 : decode cX2_sortOf 11 = .ok (.invokestatic 127, 3) := dk_184 0 127 (dk_at dksX2_sortOf_0 11 rfl rfl)
theorem dX2_sortOf_14 : decode cX2_sortOf 14 = .ok (.invokevirtual 183, 3) := dk_182 0 183 (dk_at dksX2_sortOf_0 14 rfl rfl)
theorem dX2_sortOf_17 : decode cX2_sortOf 17 = .ok (.ifCond .eq 5, 3) := dk_153 0 5 (dk_at dksX2_sortOf_0 17 rfl rfl)
theorem dX2_sortOf_20 : decode cX2_sortOf 20 = .ok (.iconst 0, 1) := dk_3 (dk_at dksX2_sortOf_0 20 rfl rfl)
theorem dX2_sortOf_21 : decode cX2_sortOf 21 = .ok (.ireturn, 1) := dk_172 (dk_at dksX2_sortOf_0 21 rfl rfl)
theorem dX2_sortOf_22 : decode cX2_sortOf 22 = .ok (.aload_n 0, 1) := dk_42 (dk_at dksX2_sortOf_0 22 rfl rfl)
theorem dX2_sortOf_23 : decode cX2_sortOf 23 = .ok (.bipush 115, 2) := dk_16 115 (dk_at dksX2_sortOf_1 0 rfl rfl)
theorem dX2_sortOf_25 : decode cX2_sortOf 25 = .ok (.bipush 119, 2) := dk_16 119 (dk_at dksX2_sortOf_1 2 rfl rfl)
theorem dX2_sortOf_27 : decode cX2_sortOf 27 = .ok (.bipush 105, 2) := dk_16 105 (dk_at dksX2_sortOf_1 4 rfl rfl)
theorem dX2_sortOf_29 : decode cX2_sortOf 29 = .ok (.bipush 110, 2) := dk_16 110 (dk_at dksX2_sortOf_1 6 rfl rfl)
theorem dX2_sortOf_31 : decode cX2_sortOf 31 = .ok (.bipush 103, 2) := dk_16 103 (dk_at dksX2_sortOf_1 8 rfl rfl)
theorem dX2_sortOf_33 : decode cX2_sortOf 33 = .ok (.bipush 115, 2) := dk_16 115 (dk_at dksX2_sortOf_1 10 rfl rfl)
theorem dX2_sortOf_35 : decode cX2_sortOf 35 = .ok (.invokestatic 137, 3) := dk_184 0 137 (dk_at dksX2_sortOf_1 12 rfl rfl)
theorem dX2_sortOf_38 : decode cX2_sortOf 38 = .ok (.invokevirtual 183, 3) := dk_182 0 183 (dk_at dksX2_sortOf_1 15 rfl rfl)
theorem dX2_sortOf_41 : decode cX2_sortOf 41 = .ok (.ifCond .eq 5, 3) := dk_153 0 5 (dk_at dksX2_sortOf_1 18 rfl rfl)
theorem dX2_sortOf_44 : decode cX2_sortOf 44 = .ok (.iconst 1, 1) := dk_4 (dk_at dksX2_sortOf_1 21 rfl rfl)
theorem dX2_sortOf_45 : decode cX2_sortOf 45 = .ok (.ireturn, 1) := dk_172 (dk_at dksX2_sortOf_1 22 rfl rfl)
theorem dX2_sortOf_46 : decode cX2_sortOf 46 = .ok (.aload_n 0, 1) := dk_42 (dk_at dksX2_sortOf_1 23 rfl rfl)
theorem dX2_sortOf_47 : decode cX2_sortOf 47 = .ok (.bipush 104, 2) := dk_16 104 (dk_at dksX2_sortOf_2 0 rfl rfl)
theorem dX2_sortOf_49 : decode cX2_sortOf 49 = .ok (.bipush 97, 2) := dk_16 97 (dk_at dksX2_sortOf_2 2 rfl rfl)
theorem dX2_sortOf_51 : decode cX2_sortOf 51 = .ok (.bipush 110, 2) := dk_16 110 (dk_at dksX2_sortOf_2 4 rfl rfl)
theorem dX2_sortOf_53 : decode cX2_sortOf 53 = .ok (.bipush 100, 2) := dk_16 100 (dk_at dksX2_sortOf_2 6 rfl rfl)
theorem dX2_sortOf_55 : decode cX2_sortOf 55 = .ok (.invokestatic 123, 3) := dk_184 0 123 (dk_at dksX2_sortOf_2 8 rfl rfl)
theorem dX2_sortOf_58 : decode cX2_sortOf 58 = .ok (.invokevirtual 183, 3) := dk_182 0 183 (dk_at dksX2_sortOf_2 11 rfl rfl)
theorem dX2_sortOf_61 : decode cX2_sortOf 61 = .ok (.ifCond .eq 5, 3) := dk_153 0 5 (dk_at dksX2_sortOf_2 14 rfl rfl)
theorem dX2_sortOf_64 : decode cX2_sortOf 64 = .ok (.iconst 2, 1) := dk_5 (dk_at dksX2_sortOf_2 17 rfl rfl)
theorem dX2_sortOf_65 : decode cX2_sortOf 65 = .ok (.ireturn, 1) := dk_172 (dk_at dksX2_sortOf_2 18 rfl rfl)
theorem dX2_sortOf_66 : decode cX2_sortOf 66 = .ok (.aload_n 0, 1) := dk_42 (dk_at dksX2_sortOf_2 19 rfl rfl)
theorem dX2_sortOf_67 : decode cX2_sortOf 67 = .ok (.bipush 104, 2) := dk_16 104 (dk_at dksX2_sortOf_2 20 rfl rfl)
theorem dX2_sortOf_69 : decode cX2_sortOf 69 = .ok (.bipush 111, 2) := dk_16 111 (dk_at dksX2_sortOf_2 22 rfl rfl)
theorem dX2_sortOf_71 : decode cX2_sortOf 71 = .ok (.bipush 108, 2) := dk_16 108 (dk_at dksX2_sortOf_3 0 rfl rfl)
theorem dX2_sortOf_73 : decode cX2_sortOf 73 = .ok (.bipush 100, 2) := dk_16 100 (dk_at dksX2_sortOf_3 2 rfl rfl)
theorem dX2_sortOf_75 : decode cX2_sortOf 75 = .ok (.bipush 115, 2) := dk_16 115 (dk_at dksX2_sortOf_3 4 rfl rfl)
theorem dX2_sortOf_77 : decode cX2_sortOf 77 = .ok (.invokestatic 127, 3) := dk_184 0 127 (dk_at dksX2_sortOf_3 6 rfl rfl)
theorem dX2_sortOf_80 : decode cX2_sortOf 80 = .ok (.invokevirtual 183, 3) := dk_182 0 183 (dk_at dksX2_sortOf_3 9 rfl rfl)
theorem dX2_sortOf_83 : decode cX2_sortOf 83 = .ok (.ifCond .eq 5, 3) := dk_153 0 5 (dk_at dksX2_sortOf_3 12 rfl rfl)
theorem dX2_sortOf_86 : decode cX2_sortOf 86 = .ok (.iconst 3, 1) := dk_6 (dk_at dksX2_sortOf_3 15 rfl rfl)
theorem dX2_sortOf_87 : decode cX2_sortOf 87 = .ok (.ireturn, 1) := dk_172 (dk_at dksX2_sortOf_3 16 rfl rfl)
theorem dX2_sortOf_88 : decode cX2_sortOf 88 = .ok (.aload_n 0, 1) := dk_42 (dk_at dksX2_sortOf_3 17 rfl rfl)
theorem dX2_sortOf_89 : decode cX2_sortOf 89 = .ok (.bipush 108, 2) := dk_16 108 (dk_at dksX2_sortOf_3 18 rfl rfl)
theorem dX2_sortOf_91 : decode cX2_sortOf 91 = .ok (.bipush 97, 2) := dk_16 97 (dk_at dksX2_sortOf_3 20 rfl rfl)
theorem dX2_sortOf_93 : decode cX2_sortOf 93 = .ok (.bipush 115, 2) := dk_16 115 (dk_at dksX2_sortOf_3 22 rfl rfl)
theorem dX2_sortOf_95 : decode cX2_sortOf 95 = .ok (.bipush 116, 2) := dk_16 116 (dk_at dksX2_sortOf_4 0 rfl rfl)
theorem dX2_sortOf_97 : decode cX2_sortOf 97 = .ok (.bipush 115, 2) := dk_16 115 (dk_at dksX2_sortOf_4 2 rfl rfl)
theorem dX2_sortOf_99 : decode cX2_sortOf 99 = .ok (.invokestatic 127, 3) := dk_184 0 127 (dk_at dksX2_sortOf_4 4 rfl rfl)
theorem dX2_sortOf_102 : decode cX2_sortOf 102 = .ok (.invokevirtual 183, 3) := dk_182 0 183 (dk_at dksX2_sortOf_4 7 rfl rfl)
theorem dX2_sortOf_105 : decode cX2_sortOf 105 = .ok (.ifCond .eq 5, 3) := dk_153 0 5 (dk_at dksX2_sortOf_4 10 rfl rfl)
theorem dX2_sortOf_108 : decode cX2_sortOf 108 = .ok (.iconst 4, 1) := dk_7 (dk_at dksX2_sortOf_4 13 rfl rfl)
theorem dX2_sortOf_109 : decode cX2_sortOf 109 = .ok (.ireturn, 1) := dk_172 (dk_at dksX2_sortOf_4 14 rfl rfl)
theorem dX2_sortOf_110 : decode cX2_sortOf 110 = .ok (.aload_n 0, 1) := dk_42 (dk_at dksX2_sortOf_4 15 rfl rfl)
theorem dX2_sortOf_111 : decode cX2_sortOf 111 = .ok (.bipush 111, 2) := dk_16 111 (dk_at dksX2_sortOf_4 16 rfl rfl)
theorem dX2_sortOf_113 : decode cX2_sortOf 113 = .ok (.bipush 114, 2) := dk_16 114 (dk_at dksX2_sortOf_4 18 rfl rfl)
theorem dX2_sortOf_115 : decode cX2_sortOf 115 = .ok (.bipush 100, 2) := dk_16 100 (dk_at dksX2_sortOf_4 20 rfl rfl)
theorem dX2_sortOf_117 : decode cX2_sortOf 117 = .ok (.bipush 101, 2) := dk_16 101 (dk_at dksX2_sortOf_4 22 rfl rfl)
theorem dX2_sortOf_119 : decode cX2_sortOf 119 = .ok (.bipush 114, 2) := dk_16 114 (dk_at dksX2_sortOf_5 0 rfl rfl)
theorem dX2_sortOf_121 : decode cX2_sortOf 121 = .ok (.invokestatic 127, 3) := dk_184 0 127 (dk_at dksX2_sortOf_5 2 rfl rfl)
theorem dX2_sortOf_124 : decode cX2_sortOf 124 = .ok (.invokevirtual 183, 3) := dk_182 0 183 (dk_at dksX2_sortOf_5 5 rfl rfl)
theorem dX2_sortOf_127 : decode cX2_sortOf 127 = .ok (.ifCond .eq 5, 3) := dk_153 0 5 (dk_at dksX2_sortOf_5 8 rfl rfl)
theorem dX2_sortOf_130 : decode cX2_sortOf 130 = .ok (.iconst 5, 1) := dk_8 (dk_at dksX2_sortOf_5 11 rfl rfl)
theorem dX2_sortOf_131 : decode cX2_sortOf 131 = .ok (.ireturn, 1) := dk_172 (dk_at dksX2_sortOf_5 12 rfl rfl)
theorem dX2_sortOf_132 : decode cX2_sortOf 132 = .ok (.aload_n 0, 1) := dk_42 (dk_at dksX2_sortOf_5 13 rfl rfl)
theorem dX2_sortOf_133 : decode cX2_sortOf 133 = .ok (.bipush 109, 2) := dk_16 109 (dk_at dksX2_sortOf_5 14 rfl rfl)
theorem dX2_sortOf_135 : decode cX2_sortOf 135 = .ok (.bipush 111, 2) := dk_16 111 (dk_at dksX2_sortOf_5 16 rfl rfl)
theorem dX2_sortOf_137 : decode cX2_sortOf 137 = .ok (.bipush 118, 2) := dk_16 118 (dk_at dksX2_sortOf_5 18 rfl rfl)
theorem dX2_sortOf_139 : decode cX2_sortOf 139 = .ok (.bipush 101, 2) := dk_16 101 (dk_at dksX2_sortOf_5 20 rfl rfl)
theorem dX2_sortOf_141 : decode cX2_sortOf 141 = .ok (.invokestatic 123, 3) := dk_184 0 123 (dk_at dksX2_sortOf_6 0 rfl rfl)
theorem dX2_sortOf_144 : decode cX2_sortOf 144 = .ok (.invokevirtual 183, 3) := dk_182 0 183 (dk_at dksX2_sortOf_6 3 rfl rfl)
theorem dX2_sortOf_147 : decode cX2_sortOf 147 = .ok (.ifCond .eq 6, 3) := dk_153 0 6 (dk_at dksX2_sortOf_6 6 rfl rfl)
theorem dX2_sortOf_150 : decode cX2_sortOf 150 = .ok (.bipush 6, 2) := dk_16 6 (dk_at dksX2_sortOf_6 9 rfl rfl)
theorem dX2_sortOf_152 : decode cX2_sortOf 152 = .ok (.ireturn, 1) := dk_172 (dk_at dksX2_sortOf_6 11 rfl rfl)
theorem dX2_sortOf_153 : decode cX2_sortOf 153 = .ok (.aload_n 0, 1) := dk_42 (dk_at dksX2_sortOf_6 12 rfl rfl)
theorem dX2_sortOf_154 : decode cX2_sortOf 154 = .ok (.bipush 114, 2) := dk_16 114 (dk_at dksX2_sortOf_6 13 rfl rfl)
theorem dX2_sortOf_156 : decode cX2_sortOf 156 = .ok (.bipush 117, 2) := dk_16 117 (dk_at dksX2_sortOf_6 15 rfl rfl)
theorem dX2_sortOf_158 : decode cX2_sortOf 158 = .ok (.bipush 110, 2) := dk_16 110 (dk_at dksX2_sortOf_6 17 rfl rfl)
theorem dX2_sortOf_160 : decode cX2_sortOf 160 = .ok (.invokestatic 119, 3) := dk_184 0 119 (dk_at dksX2_sortOf_6 19 rfl rfl)
theorem dX2_sortOf_163 : decode cX2_sortOf 163 = .ok (.invokevirtual 183, 3) := dk_182 0 183 (dk_at dksX2_sortOf_7 0 rfl rfl)
theorem dX2_sortOf_166 : decode cX2_sortOf 166 = .ok (.ifCond .eq 6, 3) := dk_153 0 6 (dk_at dksX2_sortOf_7 3 rfl rfl)
theorem dX2_sortOf_169 : decode cX2_sortOf 169 = .ok (.bipush 7, 2) := dk_16 7 (dk_at dksX2_sortOf_7 6 rfl rfl)
theorem dX2_sortOf_171 : decode cX2_sortOf 171 = .ok (.ireturn, 1) := dk_172 (dk_at dksX2_sortOf_7 8 rfl rfl)
theorem dX2_sortOf_172 : decode cX2_sortOf 172 = .ok (.aload_n 0, 1) := dk_42 (dk_at dksX2_sortOf_7 9 rfl rfl)
theorem dX2_sortOf_173 : decode cX2_sortOf 173 = .ok (.bipush 114, 2) := dk_16 114 (dk_at dksX2_sortOf_7 10 rfl rfl)
theorem dX2_sortOf_175 : decode cX2_sortOf 175 = .ok (.bipush 111, 2) := dk_16 111 (dk_at dksX2_sortOf_7 12 rfl rfl)
theorem dX2_sortOf_177 : decode cX2_sortOf 177 = .ok (.bipush 112, 2) := dk_16 112 (dk_at dksX2_sortOf_7 14 rfl rfl)
theorem dX2_sortOf_179 : decode cX2_sortOf 179 = .ok (.bipush 101, 2) := dk_16 101 (dk_at dksX2_sortOf_7 16 rfl rfl)
theorem dX2_sortOf_181 : decode cX2_sortOf 181 = .ok (.invokestatic 123, 3) := dk_184 0 123 (dk_at dksX2_sortOf_7 18 rfl rfl)
theorem dX2_sortOf_184 : decode cX2_sortOf 184 = .ok (.invokevirtual 183, 3) := dk_182 0 183 (dk_at dksX2_sortOf_7 21 rfl rfl)
theorem dX2_sortOf_187 : decode cX2_sortOf 187 = .ok (.ifCond .eq 6, 3) := dk_153 0 6 (dk_at dksX2_sortOf_8 0 rfl rfl)
theorem dX2_sortOf_190 : decode cX2_sortOf 190 = .ok (.bipush 8, 2) := dk_16 8 (dk_at dksX2_sortOf_8 3 rfl rfl)
theorem dX2_sortOf_192 : decode cX2_sortOf 192 = .ok (.ireturn, 1) := dk_172 (dk_at dksX2_sortOf_8 5 rfl rfl)
theorem dX2_sortOf_193 : decode cX2_sortOf 193 = .ok (.aload_n 0, 1) := dk_42 (dk_at dksX2_sortOf_8 6 rfl rfl)
theorem dX2_sortOf_194 : decode cX2_sortOf 194 = .ok (.bipush 97, 2) := dk_16 97 (dk_at dksX2_sortOf_8 7 rfl rfl)
theorem dX2_sortOf_196 : decode cX2_sortOf 196 = .ok (.bipush 105, 2) := dk_16 105 (dk_at dksX2_sortOf_8 9 rfl rfl)
theorem dX2_sortOf_198 : decode cX2_sortOf 198 = .ok (.bipush 109, 2) := dk_16 109 (dk_at dksX2_sortOf_8 11 rfl rfl)
theorem dX2_sortOf_200 : decode cX2_sortOf 200 = .ok (.invokestatic 119, 3) := dk_184 0 119 (dk_at dksX2_sortOf_8 13 rfl rfl)
theorem dX2_sortOf_203 : decode cX2_sortOf 203 = .ok (.invokevirtual 183, 3) := dk_182 0 183 (dk_at dksX2_sortOf_8 16 rfl rfl)
theorem dX2_sortOf_206 : decode cX2_sortOf 206 = .ok (.ifCond .eq 6, 3) := dk_153 0 6 (dk_at dksX2_sortOf_8 19 rfl rfl)
theorem dX2_sortOf_209 : decode cX2_sortOf 209 = .ok (.bipush 9, 2) := dk_16 9 (dk_at dksX2_sortOf_8 22 rfl rfl)
theorem dX2_sortOf_211 : decode cX2_sortOf 211 = .ok (.ireturn, 1) := dk_172 (dk_at dksX2_sortOf_9 0 rfl rfl)
theorem dX2_sortOf_212 : decode cX2_sortOf 212 = .ok (.aload_n 0, 1) := dk_42 (dk_at dksX2_sortOf_9 1 rfl rfl)
theorem dX2_sortOf_213 : decode cX2_sortOf 213 = .ok (.bipush 104, 2) := dk_16 104 (dk_at dksX2_sortOf_9 2 rfl rfl)
theorem dX2_sortOf_215 : decode cX2_sortOf 215 = .ok (.bipush 111, 2) := dk_16 111 (dk_at dksX2_sortOf_9 4 rfl rfl)
theorem dX2_sortOf_217 : decode cX2_sortOf 217 = .ok (.bipush 111, 2) := dk_16 111 (dk_at dksX2_sortOf_9 6 rfl rfl)
theorem dX2_sortOf_219 : decode cX2_sortOf 219 = .ok (.bipush 107, 2) := dk_16 107 (dk_at dksX2_sortOf_9 8 rfl rfl)
theorem dX2_sortOf_221 : decode cX2_sortOf 221 = .ok (.invokestatic 123, 3) := dk_184 0 123 (dk_at dksX2_sortOf_9 10 rfl rfl)
theorem dX2_sortOf_224 : decode cX2_sortOf 224 = .ok (.invokevirtual 183, 3) := dk_182 0 183 (dk_at dksX2_sortOf_9 13 rfl rfl)
theorem dX2_sortOf_227 : decode cX2_sortOf 227 = .ok (.ifCond .eq 8, 3) := dk_153 0 8 (dk_at dksX2_sortOf_9 16 rfl rfl)
theorem dX2_sortOf_230 : decode cX2_sortOf 230 = .ok (.bipush 10, 2) := dk_16 10 (dk_at dksX2_sortOf_9 19 rfl rfl)
theorem dX2_sortOf_232 : decode cX2_sortOf 232 = .ok (.goto 27, 3) := dk_167 0 27 (dk_at dksX2_sortOf_9 21 rfl rfl)
theorem dX2_sortOf_235 : decode cX2_sortOf 235 = .ok (.aload_n 0, 1) := dk_42 (dk_at dksX2_sortOf_10 0 rfl rfl)
theorem dX2_sortOf_236 : decode cX2_sortOf 236 = .ok (.bipush 108, 2) := dk_16 108 (dk_at dksX2_sortOf_10 1 rfl rfl)
theorem dX2_sortOf_238 : decode cX2_sortOf 238 = .ok (.bipush 97, 2) := dk_16 97 (dk_at dksX2_sortOf_10 3 rfl rfl)
theorem dX2_sortOf_240 : decode cX2_sortOf 240 = .ok (.bipush 110, 2) := dk_16 110 (dk_at dksX2_sortOf_10 5 rfl rfl)
theorem dX2_sortOf_242 : decode cX2_sortOf 242 = .ok (.bipush 100, 2) := dk_16 100 (dk_at dksX2_sortOf_10 7 rfl rfl)
theorem dX2_sortOf_244 : decode cX2_sortOf 244 = .ok (.invokestatic 123, 3) := dk_184 0 123 (dk_at dksX2_sortOf_10 9 rfl rfl)
theorem dX2_sortOf_247 : decode cX2_sortOf 247 = .ok (.invokevirtual 183, 3) := dk_182 0 183 (dk_at dksX2_sortOf_10 12 rfl rfl)
theorem dX2_sortOf_250 : decode cX2_sortOf 250 = .ok (.ifCond .eq 8, 3) := dk_153 0 8 (dk_at dksX2_sortOf_10 15 rfl rfl)
theorem dX2_sortOf_253 : decode cX2_sortOf 253 = .ok (.bipush 11, 2) := dk_16 11 (dk_at dksX2_sortOf_10 18 rfl rfl)
theorem dX2_sortOf_255 : decode cX2_sortOf 255 = .ok (.goto 4, 3) := dk_167 0 4 (dk_at dksX2_sortOf_10 20 rfl rfl)
theorem dX2_sortOf_258 : decode cX2_sortOf 258 = .ok (.iconst (-1), 1) := dk_2 (dk_at dksX2_sortOf_10 23 rfl rfl)
theorem dX2_sortOf_259 : decode cX2_sortOf 259 = .ok (.ireturn, 1) := dk_172 (dk_at dksX2_sortOf_11 0 rfl rfl)
abbrev cX2_w5 : ByteArray := prog_19_method_23_code
def yX2_w5 : MethodName := ⟨RX2, "w5", "(IIIII)J"⟩
def dkwX2_w5_0 : List UInt8 := [26, 27, 28, 29, 184, 0, 123, 16, 8, 121, 21, 4, 133, 129, 173]
abbrev dktX2_w5_0 : List UInt8 := dkwX2_w5_0 ++ []
theorem dksX2_w5_0 : cX2_w5.data.toList.drop 0 = dktX2_w5_0 := by decide +kernel
theorem dX2_w5_0 : decode cX2_w5 0 = .ok (.iload_n 0, 1) := dk_26 (dk_at dksX2_w5_0 0 rfl rfl)
theorem dX2_w5_1 : decode cX2_w5 1 = .ok (.iload_n 1, 1) := dk_27 (dk_at dksX2_w5_0 1 rfl rfl)
theorem dX2_w5_2 : decode cX2_w5 2 = .ok (.iload_n 2, 1) := dk_28 (dk_at dksX2_w5_0 2 rfl rfl)
theorem dX2_w5_3 : decode cX2_w5 3 = .ok (.iload_n 3, 1) := dk_29 (dk_at dksX2_w5_0 3 rfl rfl)
theorem dX2_w5_4 : decode cX2_w5 4 = .ok (.invokestatic 123, 3) := dk_184 0 123 (dk_at dksX2_w5_0 4 rfl rfl)
theorem dX2_w5_7 : decode cX2_w5 7 = .ok (.bipush 8, 2) := dk_16 8 (dk_at dksX2_w5_0 7 rfl rfl)
theorem dX2_w5_9 : decode cX2_w5 9 = .ok (.lshl, 1) := dk_121 (dk_at dksX2_w5_0 9 rfl rfl)
theorem dX2_w5_10 : decode cX2_w5 10 = .ok (.iload 4, 2) := dk_21 4 (dk_at dksX2_w5_0 10 rfl rfl)
theorem dX2_w5_12 : decode cX2_w5 12 = .ok (.i2l, 1) := dk_133 (dk_at dksX2_w5_0 12 rfl rfl)
theorem dX2_w5_13 : decode cX2_w5 13 = .ok (.lor, 1) := dk_129 (dk_at dksX2_w5_0 13 rfl rfl)
theorem dX2_w5_14 : decode cX2_w5 14 = .ok (.lreturn, 1) := dk_173 (dk_at dksX2_w5_0 14 rfl rfl)
abbrev cX2_w4 : ByteArray := prog_19_method_22_code
def yX2_w4 : MethodName := ⟨RX2, "w4", "(IIII)J"⟩
def dkwX2_w4_0 : List UInt8 := [26, 27, 28, 184, 0, 119, 16, 8, 121, 29, 133, 129, 173]
abbrev dktX2_w4_0 : List UInt8 := dkwX2_w4_0 ++ []
theorem dksX2_w4_0 : cX2_w4.data.toList.drop 0 = dktX2_w4_0 := by decide +kernel
theorem dX2_w4_0 : decode cX2_w4 0 = .ok (.iload_n 0, 1) := dk_26 (dk_at dksX2_w4_0 0 rfl rfl)
theorem dX2_w4_1 : decode cX2_w4 1 = .ok (.iload_n 1, 1) := dk_27 (dk_at dksX2_w4_0 1 rfl rfl)
theorem dX2_w4_2 : decode cX2_w4 2 = .ok (.iload_n 2, 1) := dk_28 (dk_at dksX2_w4_0 2 rfl rfl)
theorem dX2_w4_3 : decode cX2_w4 3 = .ok (.invokestatic 119, 3) := dk_184 0 119 (dk_at dksX2_w4_0 3 rfl rfl)
theorem dX2_w4_6 : decode cX2_w4 6 = .ok (.bipush 8, 2) := dk_16 8 (dk_at dksX2_w4_0 6 rfl rfl)
theorem dX2_w4_8 : decode cX2_w4 8 = .ok (.lshl, 1) := dk_121 (dk_at dksX2_w4_0 8 rfl rfl)
theorem dX2_w4_9 : decode cX2_w4 9 = .ok (.iload_n 3, 1) := dk_29 (dk_at dksX2_w4_0 9 rfl rfl)
theorem dX2_w4_10 : decode cX2_w4 10 = .ok (.i2l, 1) := dk_133 (dk_at dksX2_w4_0 10 rfl rfl)
theorem dX2_w4_11 : decode cX2_w4 11 = .ok (.lor, 1) := dk_129 (dk_at dksX2_w4_0 11 rfl rfl)
theorem dX2_w4_12 : decode cX2_w4 12 = .ok (.lreturn, 1) := dk_173 (dk_at dksX2_w4_0 12 rfl rfl)
abbrev cX2_w3 : ByteArray := prog_19_method_21_code
def yX2_w3 : MethodName := ⟨RX2, "w3", "(III)J"⟩
def dkwX2_w3_0 : List UInt8 := [26, 27, 184, 0, 115, 16, 8, 121, 28, 133, 129, 173]
abbrev dktX2_w3_0 : List UInt8 := dkwX2_w3_0 ++ []
theorem dksX2_w3_0 : cX2_w3.data.toList.drop 0 = dktX2_w3_0 := by decide +kernel
theorem dX2_w3_0 : decode cX2_w3 0 = .ok (.iload_n 0, 1) := dk_26 (dk_at dksX2_w3_0 0 rfl rfl)
theorem dX2_w3_1 : decode cX2_w3 1 = .ok (.iload_n 1, 1) := dk_27 (dk_at dksX2_w3_0 1 rfl rfl)
theorem dX2_w3_2 : decode cX2_w3 2 = .ok (.invokestatic 115, 3) := dk_184 0 115 (dk_at dksX2_w3_0 2 rfl rfl)
theorem dX2_w3_5 : decode cX2_w3 5 = .ok (.bipush 8, 2) := dk_16 8 (dk_at dksX2_w3_0 5 rfl rfl)
theorem dX2_w3_7 : decode cX2_w3 7 = .ok (.lshl, 1) := dk_121 (dk_at dksX2_w3_0 7 rfl rfl)
theorem dX2_w3_8 : decode cX2_w3 8 = .ok (.iload_n 2, 1) := dk_28 (dk_at dksX2_w3_0 8 rfl rfl)
theorem dX2_w3_9 : decode cX2_w3 9 = .ok (.i2l, 1) := dk_133 (dk_at dksX2_w3_0 9 rfl rfl)
theorem dX2_w3_10 : decode cX2_w3 10 = .ok (.lor, 1) := dk_129 (dk_at dksX2_w3_0 10 rfl rfl)
theorem dX2_w3_11 : decode cX2_w3 11 = .ok (.lreturn, 1) := dk_173 (dk_at dksX2_w3_0 11 rfl rfl)
abbrev cX2_w2 : ByteArray := prog_19_method_20_code
def yX2_w2 : MethodName := ⟨RX2, "w2", "(II)J"⟩
def dkwX2_w2_0 : List UInt8 := [26, 133, 16, 8, 121, 27, 133, 129, 173]
abbrev dktX2_w2_0 : List UInt8 := dkwX2_w2_0 ++ []
theorem dksX2_w2_0 : cX2_w2.data.toList.drop 0 = dktX2_w2_0 := by decide +kernel
theorem dX2_w2_0 : decode cX2_w2 0 = .ok (.iload_n 0, 1) := dk_26 (dk_at dksX2_w2_0 0 rfl rfl)
theorem dX2_w2_1 : decode cX2_w2 1 = .ok (.i2l, 1) := dk_133 (dk_at dksX2_w2_0 1 rfl rfl)
theorem dX2_w2_2 : decode cX2_w2 2 = .ok (.bipush 8, 2) := dk_16 8 (dk_at dksX2_w2_0 2 rfl rfl)
theorem dX2_w2_4 : decode cX2_w2 4 = .ok (.lshl, 1) := dk_121 (dk_at dksX2_w2_0 4 rfl rfl)
theorem dX2_w2_5 : decode cX2_w2 5 = .ok (.iload_n 1, 1) := dk_27 (dk_at dksX2_w2_0 5 rfl rfl)
theorem dX2_w2_6 : decode cX2_w2 6 = .ok (.i2l, 1) := dk_133 (dk_at dksX2_w2_0 6 rfl rfl)
theorem dX2_w2_7 : decode cX2_w2 7 = .ok (.lor, 1) := dk_129 (dk_at dksX2_w2_0 7 rfl rfl)
theorem dX2_w2_8 : decode cX2_w2 8 = .ok (.lreturn, 1) := dk_173 (dk_at dksX2_w2_0 8 rfl rfl)
abbrev cX2_isWord : ByteArray := prog_19_method_25_code
def yX2_isWord : MethodName := ⟨RX2, "isWord", "(J)Z"⟩
def dkwX2_isWord_0 : List UInt8 := [42, 180, 0, 92, 5, 160, 0, 16, 42, 180, 0, 106, 31, 148, 154, 0, 7, 4, 167, 0, 4, 3, 172]
abbrev dktX2_isWord_0 : List UInt8 := dkwX2_isWord_0 ++ []
theorem dksX2_isWord_0 : cX2_isWord.data.toList.drop 0 = dktX2_isWord_0 := by decide +kernel
theorem dX2_isWord_0 : decode cX2_isWord 0 = .ok (.aload_n 0, 1) := dk_42 (dk_at dksX2_isWord_0 0 rfl rfl)
theorem dX2_isWord_1 : decode cX2_isWord 1 = .ok (.getfield 92, 3) := dk_180 0 92 (dk_at dksX2_isWord_0 1 rfl rfl)
theorem dX2_isWord_4 : decode cX2_isWord 4 = .ok (.iconst 2, 1) := dk_5 (dk_at dksX2_isWord_0 4 rfl rfl)
theorem dX2_isWord_5 : decode cX2_isWord 5 = .ok (.if_icmp .ne 16, 3) := dk_160 0 16 (dk_at dksX2_isWord_0 5 rfl rfl)
theorem dX2_isWord_8 : decode cX2_isWord 8 = .ok (.aload_n 0, 1) := dk_42 (dk_at dksX2_isWord_0 8 rfl rfl)
theorem dX2_isWord_9 : decode cX2_isWord 9 = .ok (.getfield 106, 3) := dk_180 0 106 (dk_at dksX2_isWord_0 9 rfl rfl)
theorem dX2_isWord_12 : decode cX2_isWord 12 = .ok (.lload_n 1, 1) := dk_31 (dk_at dksX2_isWord_0 12 rfl rfl)
theorem dX2_isWord_13 : decode cX2_isWord 13 = .ok (.lcmp, 1) := dk_148 (dk_at dksX2_isWord_0 13 rfl rfl)
theorem dX2_isWord_14 : decode cX2_isWord 14 = .ok (.ifCond .ne 7, 3) := dk_154 0 7 (dk_at dksX2_isWord_0 14 rfl rfl)
theorem dX2_isWord_17 : decode cX2_isWord 17 = .ok (.iconst 1, 1) := dk_4 (dk_at dksX2_isWord_0 17 rfl rfl)
theorem dX2_isWord_18 : decode cX2_isWord 18 = .ok (.goto 4, 3) := dk_167 0 4 (dk_at dksX2_isWord_0 18 rfl rfl)
theorem dX2_isWord_21 : decode cX2_isWord 21 = .ok (.iconst 0, 1) := dk_3 (dk_at dksX2_isWord_0 21 rfl rfl)
theorem dX2_isWord_22 : decode cX2_isWord 22 = .ok (.ireturn, 1) := dk_172 (dk_at dksX2_isWord_0 22 rfl rfl)
abbrev cX2_w6 : ByteArray := prog_19_method_24_code
def yX2_w6 : MethodName := ⟨RX2, "w6", "(IIIIII)J"⟩
def dkwX2_w6_0 : List UInt8 := [26, 27, 28, 29, 21, 4, 184, 0, 127, 16, 8, 121, 21, 5, 133, 129, 173]
abbrev dktX2_w6_0 : List UInt8 := dkwX2_w6_0 ++ []
theorem dksX2_w6_0 : cX2_w6.data.toList.drop 0 = dktX2_w6_0 := by decide +kernel
theorem dX2_w6_0 : decode cX2_w6 0 = .ok (.iload_n 0, 1) := dk_26 (dk_at dksX2_w6_0 0 rfl rfl)
theorem dX2_w6_1 : decode cX2_w6 1 = .ok (.iload_n 1, 1) := dk_27 (dk_at dksX2_w6_0 1 rfl rfl)
theorem dX2_w6_2 : decode cX2_w6 2 = .ok (.iload_n 2, 1) := dk_28 (dk_at dksX2_w6_0 2 rfl rfl)
theorem dX2_w6_3 : decode cX2_w6 3 = .ok (.iload_n 3, 1) := dk_29 (dk_at dksX2_w6_0 3 rfl rfl)
theorem dX2_w6_4 : decode cX2_w6 4 = .ok (.iload 4, 2) := dk_21 4 (dk_at dksX2_w6_0 4 rfl rfl)
theorem dX2_w6_6 : decode cX2_w6 6 = .ok (.invokestatic 127, 3) := dk_184 0 127 (dk_at dksX2_w6_0 6 rfl rfl)
theorem dX2_w6_9 : decode cX2_w6 9 = .ok (.bipush 8, 2) := dk_16 8 (dk_at dksX2_w6_0 9 rfl rfl)
theorem dX2_w6_11 : decode cX2_w6 11 = .ok (.lshl, 1) := dk_121 (dk_at dksX2_w6_0 11 rfl rfl)
theorem dX2_w6_12 : decode cX2_w6 12 = .ok (.iload 5, 2) := dk_21 5 (dk_at dksX2_w6_0 12 rfl rfl)
theorem dX2_w6_14 : decode cX2_w6 14 = .ok (.i2l, 1) := dk_133 (dk_at dksX2_w6_0 14 rfl rfl)
theorem dX2_w6_15 : decode cX2_w6 15 = .ok (.lor, 1) := dk_129 (dk_at dksX2_w6_0 15 rfl rfl)
theorem dX2_w6_16 : decode cX2_w6 16 = .ok (.lreturn, 1) := dk_173 (dk_at dksX2_w6_0 16 rfl rfl)
abbrev cX2_has : ByteArray := prog_19_method_6_code
def yX2_has : MethodName := ⟨RX2, "has", "(II)Z"⟩
def dkwX2_has_0 : List UInt8 := [26, 27, 122, 4, 126, 4, 160, 0, 7, 4, 167, 0, 4, 3, 172]
abbrev dktX2_has_0 : List UInt8 := dkwX2_has_0 ++ []
theorem dksX2_has_0 : cX2_has.data.toList.drop 0 = dktX2_has_0 := by decide +kernel
theorem dX2_has_0 : decode cX2_has 0 = .ok (.iload_n 0, 1) := dk_26 (dk_at dksX2_has_0 0 rfl rfl)
theorem dX2_has_1 : decode cX2_has 1 = .ok (.iload_n 1, 1) := dk_27 (dk_at dksX2_has_0 1 rfl rfl)
theorem dX2_has_2 : decode cX2_has 2 = .ok (.ishr, 1) := dk_122 (dk_at dksX2_has_0 2 rfl rfl)
theorem dX2_has_3 : decode cX2_has 3 = .ok (.iconst 1, 1) := dk_4 (dk_at dksX2_has_0 3 rfl rfl)
theorem dX2_has_4 : decode cX2_has 4 = .ok (.iand, 1) := dk_126 (dk_at dksX2_has_0 4 rfl rfl)
theorem dX2_has_5 : decode cX2_has 5 = .ok (.iconst 1, 1) := dk_4 (dk_at dksX2_has_0 5 rfl rfl)
theorem dX2_has_6 : decode cX2_has 6 = .ok (.if_icmp .ne 7, 3) := dk_160 0 7 (dk_at dksX2_has_0 6 rfl rfl)
theorem dX2_has_9 : decode cX2_has 9 = .ok (.iconst 1, 1) := dk_4 (dk_at dksX2_has_0 9 rfl rfl)
theorem dX2_has_10 : decode cX2_has 10 = .ok (.goto 4, 3) := dk_167 0 4 (dk_at dksX2_has_0 10 rfl rfl)
theorem dX2_has_13 : decode cX2_has 13 = .ok (.iconst 0, 1) := dk_3 (dk_at dksX2_has_0 13 rfl rfl)
theorem dX2_has_14 : decode cX2_has 14 = .ok (.ireturn, 1) := dk_172 (dk_at dksX2_has_0 14 rfl rfl)
abbrev cX2_body : ByteArray := prog_19_method_49_code
def yX2_body : MethodName := ⟨RX2, "body", "(II)I"⟩
def dkwX2_body_4 : List UInt8 := [4, 96, 3, 16, 7, 182, 0, 215, 172, 3, 172, 42, 28, 182, 0, 232, 172]
abbrev dktX2_body_4 : List UInt8 := dkwX2_body_4 ++ []
def dkwX2_body_3 : List UInt8 := [28, 4, 96, 4, 16, 24, 182, 0, 215, 172, 42, 28, 4, 96, 3, 17, 2, 88, 182, 0, 215, 172, 42, 28]
abbrev dktX2_body_3 : List UInt8 := dkwX2_body_3 ++ dktX2_body_4
def dkwX2_body_2 : List UInt8 := [42, 28, 182, 0, 226, 172, 42, 28, 182, 0, 229, 172, 42, 28, 4, 96, 4, 16, 60, 182, 0, 215, 172, 42]
abbrev dktX2_body_2 : List UInt8 := dkwX2_body_2 ++ dktX2_body_3
def dkwX2_body_1 : List UInt8 := [170, 0, 0, 0, 0, 0, 102, 0, 0, 0, 5, 0, 0, 0, 11, 0, 0, 0, 43, 0, 0, 0, 49, 0, 0, 0, 55, 0, 0, 0, 66, 0, 0, 0, 77, 0, 0, 0, 89, 0, 0, 0, 100]
abbrev dktX2_body_1 : List UInt8 := dkwX2_body_1 ++ dktX2_body_2
def dkwX2_body_0 : List UInt8 := [27]
abbrev dktX2_body_0 : List UInt8 := dkwX2_body_0 ++ dktX2_body_1
theorem dksX2_body_0 : cX2_body.data.toList.drop 0 = dktX2_body_0 := by decide +kernel
theorem dksX2_body_1 : cX2_body.data.toList.drop 1 = dktX2_body_1 := dk_seg dksX2_body_0 1 rfl rfl
theorem dksX2_body_2 : cX2_body.data.toList.drop 44 = dktX2_body_2 := dk_seg dksX2_body_1 43 rfl rfl
theorem dksX2_body_3 : cX2_body.data.toList.drop 68 = dktX2_body_3 := dk_seg dksX2_body_2 24 rfl rfl
theorem dksX2_body_4 : cX2_body.data.toList.drop 92 = dktX2_body_4 := dk_seg dksX2_body_3 24 rfl rfl
theorem dX2_body_0 : decode cX2_body 0 = .ok (.iload_n 1, 1) := dk_27 (dk_at dksX2_body_0 0 rfl rfl)
theorem dX2_body_1 : decode cX2_body 1 = .ok (.tableswitch 102 5 11 #[43, 49, 55, 66, 77, 89, 100], 43) := by decide +kernel
theorem dX2_body_44 : decode cX2_body 44 = .ok (.aload_n 0, 1) := dk_42 (dk_at dksX2_body_2 0 rfl rfl)
theorem dX2_body_45 : decode cX2_body 45 = .ok (.iload_n 2, 1) := dk_28 (dk_at dksX2_body_2 1 rfl rfl)
theorem dX2_body_46 : decode cX2_body 46 = .ok (.invokevirtual 226, 3) := dk_182 0 226 (dk_at dksX2_body_2 2 rfl rfl)
theorem dX2_body_49 : decode cX2_body 49 = .ok (.ireturn, 1) := dk_172 (dk_at dksX2_body_2 5 rfl rfl)
theorem dX2_body_50 : decode cX2_body 50 = .ok (.aload_n 0, 1) := dk_42 (dk_at dksX2_body_2 6 rfl rfl)
theorem dX2_body_51 : decode cX2_body 51 = .ok (.iload_n 2, 1) := dk_28 (dk_at dksX2_body_2 7 rfl rfl)
theorem dX2_body_52 : decode cX2_body 52 = .ok (.invokevirtual 229, 3) := dk_182 0 229 (dk_at dksX2_body_2 8 rfl rfl)
theorem dX2_body_55 : decode cX2_body 55 = .ok (.ireturn, 1) := dk_172 (dk_at dksX2_body_2 11 rfl rfl)
theorem dX2_body_56 : decode cX2_body 56 = .ok (.aload_n 0, 1) := dk_42 (dk_at dksX2_body_2 12 rfl rfl)
theorem dX2_body_57 : decode cX2_body 57 = .ok (.iload_n 2, 1) := dk_28 (dk_at dksX2_body_2 13 rfl rfl)
theorem dX2_body_58 : decode cX2_body 58 = .ok (.iconst 1, 1) := dk_4 (dk_at dksX2_body_2 14 rfl rfl)
theorem dX2_body_59 : decode cX2_body 59 = .ok (.iadd, 1) := dk_96 (dk_at dksX2_body_2 15 rfl rfl)
theorem dX2_body_60 : decode cX2_body 60 = .ok (.iconst 1, 1) := dk_4 (dk_at dksX2_body_2 16 rfl rfl)
theorem dX2_body_61 : decode cX2_body 61 = .ok (.bipush 60, 2) := dk_16 60 (dk_at dksX2_body_2 17 rfl rfl)
theorem dX2_body_63 : decode cX2_body 63 = .ok (.invokevirtual 215, 3) := dk_182 0 215 (dk_at dksX2_body_2 19 rfl rfl)
theorem dX2_body_66 : decode cX2_body 66 = .ok (.ireturn, 1) := dk_172 (dk_at dksX2_body_2 22 rfl rfl)
theorem dX2_body_67 : decode cX2_body 67 = .ok (.aload_n 0, 1) := dk_42 (dk_at dksX2_body_2 23 rfl rfl)
theorem dX2_body_68 : decode cX2_body 68 = .ok (.iload_n 2, 1) := dk_28 (dk_at dksX2_body_3 0 rfl rfl)
theorem dX2_body_69 : decode cX2_body 69 = .ok (.iconst 1, 1) := dk_4 (dk_at dksX2_body_3 1 rfl rfl)
theorem dX2_body_70 : decode cX2_body 70 = .ok (.iadd, 1) := dk_96 (dk_at dksX2_body_3 2 rfl rfl)
theorem dX2_body_71 : decode cX2_body 71 = .ok (.iconst 1, 1) := dk_4 (dk_at dksX2_body_3 3 rfl rfl)
theorem dX2_body_72 : decode cX2_body 72 = .ok (.bipush 24, 2) := dk_16 24 (dk_at dksX2_body_3 4 rfl rfl)
theorem dX2_body_74 : decode cX2_body 74 = .ok (.invokevirtual 215, 3) := dk_182 0 215 (dk_at dksX2_body_3 6 rfl rfl)
theorem dX2_body_77 : decode cX2_body 77 = .ok (.ireturn, 1) := dk_172 (dk_at dksX2_body_3 9 rfl rfl)
theorem dX2_body_78 : decode cX2_body 78 = .ok (.aload_n 0, 1) := dk_42 (dk_at dksX2_body_3 10 rfl rfl)
theorem dX2_body_79 : decode cX2_body 79 = .ok (.iload_n 2, 1) := dk_28 (dk_at dksX2_body_3 11 rfl rfl)
theorem dX2_body_80 : decode cX2_body 80 = .ok (.iconst 1, 1) := dk_4 (dk_at dksX2_body_3 12 rfl rfl)
theorem dX2_body_81 : decode cX2_body 81 = .ok (.iadd, 1) := dk_96 (dk_at dksX2_body_3 13 rfl rfl)
theorem dX2_body_82 : decode cX2_body 82 = .ok (.iconst 0, 1) := dk_3 (dk_at dksX2_body_3 14 rfl rfl)
theorem dX2_body_83 : decode cX2_body 83 = .ok (.sipush 600, 3) := dk_17 2 88 (dk_at dksX2_body_3 15 rfl rfl)
theorem dX2_body_86 : decode cX2_body 86 = .ok (.invokevirtual 215, 3) := dk_182 0 215 (dk_at dksX2_body_3 18 rfl rfl)
theorem dX2_body_89 : decode cX2_body 89 = .ok (.ireturn, 1) := dk_172 (dk_at dksX2_body_3 21 rfl rfl)
theorem dX2_body_90 : decode cX2_body 90 = .ok (.aload_n 0, 1) := dk_42 (dk_at dksX2_body_3 22 rfl rfl)
theorem dX2_body_91 : decode cX2_body 91 = .ok (.iload_n 2, 1) := dk_28 (dk_at dksX2_body_3 23 rfl rfl)
theorem dX2_body_92 : decode cX2_body 92 = .ok (.iconst 1, 1) := dk_4 (dk_at dksX2_body_4 0 rfl rfl)
theorem dX2_body_93 : decode cX2_body 93 = .ok (.iadd, 1) := dk_96 (dk_at dksX2_body_4 1 rfl rfl)
theorem dX2_body_94 : decode cX2_body 94 = .ok (.iconst 0, 1) := dk_3 (dk_at dksX2_body_4 2 rfl rfl)
theorem dX2_body_95 : decode cX2_body 95 = .ok (.bipush 7, 2) := dk_16 7 (dk_at dksX2_body_4 3 rfl rfl)
theorem dX2_body_97 : decode cX2_body 97 = .ok (.invokevirtual 215, 3) := dk_182 0 215 (dk_at dksX2_body_4 5 rfl rfl)
theorem dX2_body_100 : decode cX2_body 100 = .ok (.ireturn, 1) := dk_172 (dk_at dksX2_body_4 8 rfl rfl)
theorem dX2_body_101 : decode cX2_body 101 = .ok (.iconst 0, 1) := dk_3 (dk_at dksX2_body_4 9 rfl rfl)
theorem dX2_body_102 : decode cX2_body 102 = .ok (.ireturn, 1) := dk_172 (dk_at dksX2_body_4 10 rfl rfl)
theorem dX2_body_103 : decode cX2_body 103 = .ok (.aload_n 0, 1) := dk_42 (dk_at dksX2_body_4 11 rfl rfl)
theorem dX2_body_104 : decode cX2_body 104 = .ok (.iload_n 2, 1) := dk_28 (dk_at dksX2_body_4 12 rfl rfl)
theorem dX2_body_105 : decode cX2_body 105 = .ok (.invokevirtual 232, 3) := dk_182 0 232 (dk_at dksX2_body_4 13 rfl rfl)
theorem dX2_body_108 : decode cX2_body 108 = .ok (.ireturn, 1) := dk_172 (dk_at dksX2_body_4 16 rfl rfl)
abbrev cX2_orderClause : ByteArray := prog_19_method_47_code
def yX2_orderClause : MethodName := ⟨RX2, "orderClause", "(I)I"⟩
def dkwX2_orderClause_4 : List UInt8 := [184, 0, 115, 27, 8, 96, 3, 4, 182, 0, 222, 172]
abbrev dktX2_orderClause_4 : List UInt8 := dkwX2_orderClause_4 ++ []
def dkwX2_orderClause_3 : List UInt8 := [27, 7, 96, 3, 16, 9, 182, 0, 222, 61, 28, 153, 0, 7, 28, 167, 0, 19, 42, 16, 111, 16, 110]
abbrev dktX2_orderClause_3 : List UInt8 := dkwX2_orderClause_3 ++ dktX2_orderClause_4
def dkwX2_orderClause_2 : List UInt8 := [6, 96, 3, 17, 3, 231, 182, 0, 222, 61, 28, 154, 0, 23, 42, 16, 109, 16, 101, 16, 110, 184, 0, 119]
abbrev dktX2_orderClause_2 : List UInt8 := dkwX2_orderClause_2 ++ dktX2_orderClause_3
def dkwX2_orderClause_1 : List UInt8 := [5, 96, 3, 16, 60, 182, 0, 222, 61, 28, 154, 0, 24, 42, 16, 100, 16, 117, 16, 101, 184, 0, 119, 27]
abbrev dktX2_orderClause_1 : List UInt8 := dkwX2_orderClause_1 ++ dktX2_orderClause_2
def dkwX2_orderClause_0 : List UInt8 := [42, 27, 4, 96, 4, 16, 99, 182, 0, 215, 61, 28, 154, 0, 21, 42, 16, 97, 16, 116, 184, 0, 115, 27]
abbrev dktX2_orderClause_0 : List UInt8 := dkwX2_orderClause_0 ++ dktX2_orderClause_1
theorem dksX2_orderClause_0 : cX2_orderClause.data.toList.drop 0 = dktX2_orderClause_0 := by decide +kernel
theorem dksX2_orderClause_1 : cX2_orderClause.data.toList.drop 24 = dktX2_orderClause_1 := dk_seg dksX2_orderClause_0 24 rfl rfl
theorem dksX2_orderClause_2 : cX2_orderClause.data.toList.drop 48 = dktX2_orderClause_2 := dk_seg dksX2_orderClause_1 24 rfl rfl
theorem dksX2_orderClause_3 : cX2_orderClause.data.toList.drop 72 = dktX2_orderClause_3 := dk_seg dksX2_orderClause_2 24 rfl rfl
theorem dksX2_orderClause_4 : cX2_orderClause.data.toList.drop 95 = dktX2_orderClause_4 := dk_seg dksX2_orderClause_3 23 rfl rfl
theorem dX2_orderClause_0 : decode cX2_orderClause 0 = .ok (.aload_n 0, 1) := dk_42 (dk_at dksX2_orderClause_0 0 rfl rfl)
theorem dX2_orderClause_1 : decode cX2_orderClause 1 = .ok (.iload_n 1, 1) := dk_27 (dk_at dksX2_orderClause_0 1 rfl rfl)
theorem dX2_orderClause_2 : decode cX2_orderClause 2 = .ok (.iconst 1, 1) := dk_4 (dk_at dksX2_orderClause_0 2 rfl rfl)
theorem dX2_orderClause_3 : decode cX2_orderClause 3 = .ok (.iadd, 1) := dk_96 (dk_at dksX2_orderClause_0 3 rfl rfl)
theorem dX2_orderClause_4 : decode cX2_orderClause 4 = .ok (.iconst 1, 1) := dk_4 (dk_at dksX2_orderClause_0 4 rfl rfl)
theorem dX2_orderClause_5 : decode cX2_orderClause 5 = .ok (.bipush 99, 2) := dk_16 99 (dk_at dksX2_orderClause_0 5 rfl rfl)
theorem dX2_orderClause_7 : decode cX2_orderClause 7 = .ok (.invokevirtual 215, 3) := dk_182 0 215 (dk_at dksX2_orderClause_0 7 rfl rfl)
theorem dX2_orderClause_10 : decode cX2_orderClause 10 = .ok (.istore_n 2, 1) := dk_61 (dk_at dksX2_orderClause_0 10 rfl rfl)
theorem dX2_orderClause_11 : decode cX2_orderClause 11 = .ok (.iload_n 2, 1) := dk_28 (dk_at dksX2_orderClause_0 11 rfl rfl)
theorem dX2_orderClause_12 : decode cX2_orderClause 12 = .ok (.ifCond .ne 21, 3) := dk_154 0 21 (dk_at dksX2_orderClause_0 12 rfl rfl)
theorem dX2_orderClause_15 : decode cX2_orderClause 15 = .ok (.aload_n 0, 1) := dk_42 (dk_at dksX2_orderClause_0 15 rfl rfl)
theorem dX2_orderClause_16 : decode cX2_orderClause 16 = .ok (.bipush 97, 2) := dk_16 97 (dk_at dksX2_orderClause_0 16 rfl rfl)
theorem dX2_orderClause_18 : decode cX2_orderClause 18 = .ok (.bipush 116, 2) := dk_16 116 (dk_at dksX2_orderClause_0 18 rfl rfl)
theorem dX2_orderClause_20 : decode cX2_orderClause 20 = .ok (.invokestatic 115, 3) := dk_184 0 115 (dk_at dksX2_orderClause_0 20 rfl rfl)
theorem dX2_orderClause_23 : decode cX2_orderClause 23 = .ok (.iload_n 1, 1) := dk_27 (dk_at dksX2_orderClause_0 23 rfl rfl)
theorem dX2_orderClause_24 : decode cX2_orderClause 24 = .ok (.iconst 2, 1) := dk_5 (dk_at dksX2_orderClause_1 0 rfl rfl)
theorem dX2_orderClause_25 : decode cX2_orderClause 25 = .ok (.iadd, 1) := dk_96 (dk_at dksX2_orderClause_1 1 rfl rfl)
theorem dX2_orderClause_26 : decode cX2_orderClause 26 = .ok (.iconst 0, 1) := dk_3 (dk_at dksX2_orderClause_1 2 rfl rfl)
theorem dX2_orderClause_27 : decode cX2_orderClause 27 = .ok (.bipush 60, 2) := dk_16 60 (dk_at dksX2_orderClause_1 3 rfl rfl)
theorem dX2_orderClause_29 : decode cX2_orderClause 29 = .ok (.invokevirtual 222, 3) := dk_182 0 222 (dk_at dksX2_orderClause_1 5 rfl rfl)
theorem dX2_orderClause_32 : decode cX2_orderClause 32 = .ok (.istore_n 2, 1) := dk_61 (dk_at dksX2_orderClause_1 8 rfl rfl)
theorem dX2_orderClause_33 : decode cX2_orderClause 33 = .ok (.iload_n 2, 1) := dk_28 (dk_at dksX2_orderClause_1 9 rfl rfl)
theorem dX2_orderClause_34 : decode cX2_orderClause 34 = .ok (.ifCond .ne 24, 3) := dk_154 0 24 (dk_at dksX2_orderClause_1 10 rfl rfl)
theorem dX2_orderClause_37 : decode cX2_orderClause 37 = .ok (.aload_n 0, 1) := dk_42 (dk_at dksX2_orderClause_1 13 rfl rfl)
theorem dX2_orderClause_38 : decode cX2_orderClause 38 = .ok (.bipush 100, 2) := dk_16 100 (dk_at dksX2_orderClause_1 14 rfl rfl)
theorem dX2_orderClause_40 : decode cX2_orderClause 40 = .ok (.bipush 117, 2) := dk_16 117 (dk_at dksX2_orderClause_1 16 rfl rfl)
theorem dX2_orderClause_42 : decode cX2_orderClause 42 = .ok (.bipush 101, 2) := dk_16 101 (dk_at dksX2_orderClause_1 18 rfl rfl)
theorem dX2_orderClause_44 : decode cX2_orderClause 44 = .ok (.invokestatic 119, 3) := dk_184 0 119 (dk_at dksX2_orderClause_1 20 rfl rfl)
theorem dX2_orderClause_47 : decode cX2_orderClause 47 = .ok (.iload_n 1, 1) := dk_27 (dk_at dksX2_orderClause_1 23 rfl rfl)
theorem dX2_orderClause_48 : decode cX2_orderClause 48 = .ok (.iconst 3, 1) := dk_6 (dk_at dksX2_orderClause_2 0 rfl rfl)
theorem dX2_orderClause_49 : decode cX2_orderClause 49 = .ok (.iadd, 1) := dk_96 (dk_at dksX2_orderClause_2 1 rfl rfl)
theorem dX2_orderClause_50 : decode cX2_orderClause 50 = .ok (.iconst 0, 1) := dk_3 (dk_at dksX2_orderClause_2 2 rfl rfl)
theorem dX2_orderClause_51 : decode cX2_orderClause 51 = .ok (.sipush 999, 3) := dk_17 3 231 (dk_at dksX2_orderClause_2 3 rfl rfl)
theorem dX2_orderClause_54 : decode cX2_orderClause 54 = .ok (.invokevirtual 222, 3) := dk_182 0 222 (dk_at dksX2_orderClause_2 6 rfl rfl)
theorem dX2_orderClause_57 : decode cX2_orderClause 57 = .ok (.istore_n 2, 1) := dk_61 (dk_at dksX2_orderClause_2 9 rfl rfl)
theorem dX2_orderClause_58 : decode cX2_orderClause 58 = .ok (.iload_n 2, 1) := dk_28 (dk_at dksX2_orderClause_2 10 rfl rfl)
theorem dX2_orderClause_59 : decode cX2_orderClause 59 = .ok (.ifCond .ne 23, 3) := dk_154 0 23 (dk_at dksX2_orderClause_2 11 rfl rfl)
theorem dX2_orderClause_62 : decode cX2_orderClause 62 = .ok (.aload_n 0, 1) := dk_42 (dk_at dksX2_orderClause_2 14 rfl rfl)
theorem dX2_orderClause_63 : decode cX2_orderClause 63 = .ok (.bipush 109, 2) := dk_16 109 (dk_at dksX2_orderClause_2 15 rfl rfl)
theorem dX2_orderClause_65 : decode cX2_orderClause 65 = .ok (.bipush 101, 2) := dk_16 101 (dk_at dksX2_orderClause_2 17 rfl rfl)
theorem dX2_orderClause_67 : decode cX2_orderClause 67 = .ok (.bipush 110, 2) := dk_16 110 (dk_at dksX2_orderClause_2 19 rfl rfl)
theorem dX2_orderClause_69 : decode cX2_orderClause 69 = .ok (.invokestatic 119, 3) := dk_184 0 119 (dk_at dksX2_orderClause_2 21 rfl rfl)
theorem dX2_orderClause_72 : decode cX2_orderClause 72 = .ok (.iload_n 1, 1) := dk_27 (dk_at dksX2_orderClause_3 0 rfl rfl)
theorem dX2_orderClause_73 : decode cX2_orderClause 73 = .ok (.iconst 4, 1) := dk_7 (dk_at dksX2_orderClause_3 1 rfl rfl)
theorem dX2_orderClause_74 : decode cX2_orderClause 74 = .ok (.iadd, 1) := dk_96 (dk_at dksX2_orderClause_3 2 rfl rfl)
theorem dX2_orderClause_75 : decode cX2_orderClause 75 = .ok (.iconst 0, 1) := dk_3 (dk_at dksX2_orderClause_3 3 rfl rfl)
theorem dX2_orderClause_76 : decode cX2_orderClause 76 = .ok (.bipush 9, 2) := dk_16 9 (dk_at dksX2_orderClause_3 4 rfl rfl)
theorem dX2_orderClause_78 : decode cX2_orderClause 78 = .ok (.invokevirtual 222, 3) := dk_182 0 222 (dk_at dksX2_orderClause_3 6 rfl rfl)
theorem dX2_orderClause_81 : decode cX2_orderClause 81 = .ok (.istore_n 2, 1) := dk_61 (dk_at dksX2_orderClause_3 9 rfl rfl)
theorem dX2_orderClause_82 : decode cX2_orderClause 82 = .ok (.iload_n 2, 1) := dk_28 (dk_at dksX2_orderClause_3 10 rfl rfl)
theorem dX2_orderClause_83 : decode cX2_orderClause 83 = .ok (.ifCond .eq 7, 3) := dk_153 0 7 (dk_at dksX2_orderClause_3 11 rfl rfl)
theorem dX2_orderClause_86 : decode cX2_orderClause 86 = .ok (.iload_n 2, 1) := dk_28 (dk_at dksX2_orderClause_3 14 rfl rfl)
theorem dX2_orderClause_87 : decode cX2_orderClause 87 = .ok (.goto 19, 3) := dk_167 0 19 (dk_at dksX2_orderClause_3 15 rfl rfl)
theorem dX2_orderClause_90 : decode cX2_orderClause 90 = .ok (.aload_n 0, 1) := dk_42 (dk_at dksX2_orderClause_3 18 rfl rfl)
theorem dX2_orderClause_91 : decode cX2_orderClause 91 = .ok (.bipush 111, 2) := dk_16 111 (dk_at dksX2_orderClause_3 19 rfl rfl)
theorem dX2_orderClause_93 : decode cX2_orderClause 93 = .ok (.bipush 110, 2) := dk_16 110 (dk_at dksX2_orderClause_3 21 rfl rfl)
theorem dX2_orderClause_95 : decode cX2_orderClause 95 = .ok (.invokestatic 115, 3) := dk_184 0 115 (dk_at dksX2_orderClause_4 0 rfl rfl)
theorem dX2_orderClause_98 : decode cX2_orderClause 98 = .ok (.iload_n 1, 1) := dk_27 (dk_at dksX2_orderClause_4 3 rfl rfl)
theorem dX2_orderClause_99 : decode cX2_orderClause 99 = .ok (.iconst 5, 1) := dk_8 (dk_at dksX2_orderClause_4 4 rfl rfl)
theorem dX2_orderClause_100 : decode cX2_orderClause 100 = .ok (.iadd, 1) := dk_96 (dk_at dksX2_orderClause_4 5 rfl rfl)
theorem dX2_orderClause_101 : decode cX2_orderClause 101 = .ok (.iconst 0, 1) := dk_3 (dk_at dksX2_orderClause_4 6 rfl rfl)
theorem dX2_orderClause_102 : decode cX2_orderClause 102 = .ok (.iconst 1, 1) := dk_4 (dk_at dksX2_orderClause_4 7 rfl rfl)
theorem dX2_orderClause_103 : decode cX2_orderClause 103 = .ok (.invokevirtual 222, 3) := dk_182 0 222 (dk_at dksX2_orderClause_4 8 rfl rfl)
theorem dX2_orderClause_106 : decode cX2_orderClause 106 = .ok (.ireturn, 1) := dk_172 (dk_at dksX2_orderClause_4 11 rfl rfl)
abbrev cX2_figure : ByteArray := prog_19_method_44_code
def yX2_figure : MethodName := ⟨RX2, "figure", "(III)I"⟩
def dkwX2_figure_1 : List UInt8 := [42, 180, 0, 16, 27, 42, 180, 0, 99, 79, 42, 182, 0, 164, 3, 172]
abbrev dktX2_figure_1 : List UInt8 := dkwX2_figure_1 ++ []
def dkwX2_figure_0 : List UInt8 := [42, 180, 0, 92, 4, 159, 0, 5, 4, 172, 42, 180, 0, 99, 28, 29, 184, 0, 71, 154, 0, 5, 5, 172]
abbrev dktX2_figure_0 : List UInt8 := dkwX2_figure_0 ++ dktX2_figure_1
theorem dksX2_figure_0 : cX2_figure.data.toList.drop 0 = dktX2_figure_0 := by decide +kernel
theorem dksX2_figure_1 : cX2_figure.data.toList.drop 24 = dktX2_figure_1 := dk_seg dksX2_figure_0 24 rfl rfl
theorem dX2_figure_0 : decode cX2_figure 0 = .ok (.aload_n 0, 1) := dk_42 (dk_at dksX2_figure_0 0 rfl rfl)
theorem dX2_figure_1 : decode cX2_figure 1 = .ok (.getfield 92, 3) := dk_180 0 92 (dk_at dksX2_figure_0 1 rfl rfl)
theorem dX2_figure_4 : decode cX2_figure 4 = .ok (.iconst 1, 1) := dk_4 (dk_at dksX2_figure_0 4 rfl rfl)
theorem dX2_figure_5 : decode cX2_figure 5 = .ok (.if_icmp .eq 5, 3) := dk_159 0 5 (dk_at dksX2_figure_0 5 rfl rfl)
theorem dX2_figure_8 : decode cX2_figure 8 = .ok (.iconst 1, 1) := dk_4 (dk_at dksX2_figure_0 8 rfl rfl)
theorem dX2_figure_9 : decode cX2_figure 9 = .ok (.ireturn, 1) := dk_172 (dk_at dksX2_figure_0 9 rfl rfl)
theorem dX2_figure_10 : decode cX2_figure 10 = .ok (.aload_n 0, 1) := dk_42 (dk_at dksX2_figure_0 10 rfl rfl)
theorem dX2_figure_11 : decode cX2_figure 11 = .ok (.getfield 99, 3) := dk_180 0 99 (dk_at dksX2_figure_0 11 rfl rfl)
theorem dX2_figure_14 : decode cX2_figure 14 = .ok (.iload_n 2, 1) := dk_28 (dk_at dksX2_figure_0 14 rfl rfl)
theorem dX2_figure_15 : decode cX2_figure 15 = .ok (.iload_n 3, 1) := dk_29 (dk_at dksX2_figure_0 15 rfl rfl)
theorem dX2_figure_16 : decode cX2_figure 16 = .ok (.invokestatic 71, 3) := dk_184 0 71 (dk_at dksX2_figure_0 16 rfl rfl)
theorem dX2_figure_19 : decode cX2_figure 19 = .ok (.ifCond .ne 5, 3) := dk_154 0 5 (dk_at dksX2_figure_0 19 rfl rfl)
theorem dX2_figure_22 : decode cX2_figure 22 = .ok (.iconst 2, 1) := dk_5 (dk_at dksX2_figure_0 22 rfl rfl)
theorem dX2_figure_23 : decode cX2_figure 23 = .ok (.ireturn, 1) := dk_172 (dk_at dksX2_figure_0 23 rfl rfl)
theorem dX2_figure_24 : decode cX2_figure 24 = .ok (.aload_n 0, 1) := dk_42 (dk_at dksX2_figure_1 0 rfl rfl)
theorem dX2_figure_25 : decode cX2_figure 25 = .ok (.getfield 16, 3) := dk_180 0 16 (dk_at dksX2_figure_1 1 rfl rfl)
theorem dX2_figure_28 : decode cX2_figure 28 = .ok (.iload_n 1, 1) := dk_27 (dk_at dksX2_figure_1 4 rfl rfl)
theorem dX2_figure_29 : decode cX2_figure 29 = .ok (.aload_n 0, 1) := dk_42 (dk_at dksX2_figure_1 5 rfl rfl)
theorem dX2_figure_30 : decode cX2_figure 30 = .ok (.getfield 99, 3) := dk_180 0 99 (dk_at dksX2_figure_1 6 rfl rfl)
theorem dX2_figure_33 : decode cX2_figure 33 = .ok (.iastore, 1) := dk_79 (dk_at dksX2_figure_1 9 rfl rfl)
theorem dX2_figure_34 : decode cX2_figure 34 = .ok (.aload_n 0, 1) := dk_42 (dk_at dksX2_figure_1 10 rfl rfl)
theorem dX2_figure_35 : decode cX2_figure 35 = .ok (.invokevirtual 164, 3) := dk_182 0 164 (dk_at dksX2_figure_1 11 rfl rfl)
theorem dX2_figure_38 : decode cX2_figure 38 = .ok (.iconst 0, 1) := dk_3 (dk_at dksX2_figure_1 14 rfl rfl)
theorem dX2_figure_39 : decode cX2_figure 39 = .ok (.ireturn, 1) := dk_172 (dk_at dksX2_figure_1 15 rfl rfl)
abbrev cX2_worded : ByteArray := prog_19_method_45_code
def yX2_worded : MethodName := ⟨RX2, "worded", "(JIII)I"⟩
def dkwX2_worded_0 : List UInt8 := [42, 31, 182, 0, 183, 154, 0, 5, 4, 172, 42, 182, 0, 164, 42, 29, 21, 4, 21, 5, 182, 0, 215, 172]
abbrev dktX2_worded_0 : List UInt8 := dkwX2_worded_0 ++ []
theorem dksX2_worded_0 : cX2_worded.data.toList.drop 0 = dktX2_worded_0 := by decide +kernel
theorem dX2_worded_0 : decode cX2_worded 0 = .ok (.aload_n 0, 1) := dk_42 (dk_at dksX2_worded_0 0 rfl rfl)
theorem dX2_worded_1 : decode cX2_worded 1 = .ok (.lload_n 1, 1) := dk_31 (dk_at dksX2_worded_0 1 rfl rfl)
theorem dX2_worded_2 : decode cX2_worded 2 = .ok (.invokevirtual 183, 3) := dk_182 0 183 (dk_at dksX2_worded_0 2 rfl rfl)
theorem dX2_worded_5 : decode cX2_worded 5 = .ok (.ifCond .ne 5, 3) := dk_154 0 5 (dk_at dksX2_worded_0 5 rfl rfl)
theorem dX2_worded_8 : decode cX2_worded 8 = .ok (.iconst 1, 1) := dk_4 (dk_at dksX2_worded_0 8 rfl rfl)
theorem dX2_worded_9 : decode cX2_worded 9 = .ok (.ireturn, 1) := dk_172 (dk_at dksX2_worded_0 9 rfl rfl)
theorem dX2_worded_10 : decode cX2_worded 10 = .ok (.aload_n 0, 1) := dk_42 (dk_at dksX2_worded_0 10 rfl rfl)
theorem dX2_worded_11 : decode cX2_worded 11 = .ok (.invokevirtual 164, 3) := dk_182 0 164 (dk_at dksX2_worded_0 11 rfl rfl)
theorem dX2_worded_14 : decode cX2_worded 14 = .ok (.aload_n 0, 1) := dk_42 (dk_at dksX2_worded_0 14 rfl rfl)
theorem dX2_worded_15 : decode cX2_worded 15 = .ok (.iload_n 3, 1) := dk_29 (dk_at dksX2_worded_0 15 rfl rfl)
theorem dX2_worded_16 : decode cX2_worded 16 = .ok (.iload 4, 2) := dk_21 4 (dk_at dksX2_worded_0 16 rfl rfl)
theorem dX2_worded_18 : decode cX2_worded 18 = .ok (.iload 5, 2) := dk_21 5 (dk_at dksX2_worded_0 18 rfl rfl)
theorem dX2_worded_20 : decode cX2_worded 20 = .ok (.invokevirtual 215, 3) := dk_182 0 215 (dk_at dksX2_worded_0 20 rfl rfl)
theorem dX2_worded_23 : decode cX2_worded 23 = .ok (.ireturn, 1) := dk_172 (dk_at dksX2_worded_0 23 rfl rfl)
abbrev cX2_moveClause : ByteArray := prog_19_method_48_code
def yX2_moveClause : MethodName := ⟨RX2, "moveClause", "(I)I"⟩
def dkwX2_moveClause_3 : List UInt8 := [2, 167, 0, 4, 3, 79, 42, 182, 0, 164, 3, 172]
abbrev dktX2_moveClause_3 : List UInt8 := dkwX2_moveClause_3 ++ []
def dkwX2_moveClause_2 : List UInt8 := [154, 0, 5, 4, 172, 42, 180, 0, 16, 27, 4, 96, 28, 153, 0, 7, 4, 167, 0, 12, 29, 153, 0, 7]
abbrev dktX2_moveClause_2 : List UInt8 := dkwX2_moveClause_2 ++ dktX2_moveClause_3
def dkwX2_moveClause_1 : List UInt8 := [182, 0, 183, 62, 28, 154, 0, 23, 29, 154, 0, 19, 42, 16, 111, 16, 110, 184, 0, 115, 182, 0, 183]
abbrev dktX2_moveClause_1 : List UInt8 := dkwX2_moveClause_1 ++ dktX2_moveClause_2
def dkwX2_moveClause_0 : List UInt8 := [42, 16, 111, 16, 117, 16, 116, 184, 0, 119, 182, 0, 183, 61, 42, 16, 105, 16, 110, 184, 0, 115]
abbrev dktX2_moveClause_0 : List UInt8 := dkwX2_moveClause_0 ++ dktX2_moveClause_1
theorem dksX2_moveClause_0 : cX2_moveClause.data.toList.drop 0 = dktX2_moveClause_0 := by decide +kernel
theorem dksX2_moveClause_1 : cX2_moveClause.data.toList.drop 22 = dktX2_moveClause_1 := dk_seg dksX2_moveClause_0 22 rfl rfl
theorem dksX2_moveClause_2 : cX2_moveClause.data.toList.drop 45 = dktX2_moveClause_2 := dk_seg dksX2_moveClause_1 23 rfl rfl
theorem dksX2_moveClause_3 : cX2_moveClause.data.toList.drop 69 = dktX2_moveClause_3 := dk_seg dksX2_moveClause_2 24 rfl rfl
theorem dX2_moveClause_0 : decode cX2_moveClause 0 = .ok (.aload_n 0, 1) := dk_42 (dk_at dksX2_moveClause_0 0 rfl rfl)
theorem dX2_moveClause_1 : decode cX2_moveClause 1 = .ok (.bipush 111, 2) := dk_16 111 (dk_at dksX2_moveClause_0 1 rfl rfl)
theorem dX2_moveClause_3 : decode cX2_moveClause 3 = .ok (.bipush 117, 2) := dk_16 117 (dk_at dksX2_moveClause_0 3 rfl rfl)
theorem dX2_moveClause_5 : decode cX2_moveClause 5 = .ok (.bipush 116, 2) := dk_16 116 (dk_at dksX2_moveClause_0 5 rfl rfl)
theorem dX2_moveClause_7 : decode cX2_moveClause 7 = .ok (.invokestatic 119, 3) := dk_184 0 119 (dk_at dksX2_moveClause_0 7 rfl rfl)
theorem dX2_moveClause_10 : decode cX2_moveClause 10 = .ok (.invokevirtual 183, 3) := dk_182 0 183 (dk_at dksX2_moveClause_0 10 rfl rfl)
theorem dX2_moveClause_13 : decode cX2_moveClause 13 = .ok (.istore_n 2, 1) := dk_61 (dk_at dksX2_moveClause_0 13 rfl rfl)
theorem dX2_moveClause_14 : decode cX2_moveClause 14 = .ok (.aload_n 0, 1) := dk_42 (dk_at dksX2_moveClause_0 14 rfl rfl)
theorem dX2_moveClause_15 : decode cX2_moveClause 15 = .ok (.bipush 105, 2) := dk_16 105 (dk_at dksX2_moveClause_0 15 rfl rfl)
theorem dX2_moveClause_17 : decode cX2_moveClause 17 = .ok (.bipush 110, 2) := dk_16 110 (dk_at dksX2_moveClause_0 17 rfl rfl)
theorem dX2_moveClause_19 : decode cX2_moveClause 19 = .ok (.invokestatic 115, 3) := dk_184 0 115 (dk_at dksX2_moveClause_0 19 rfl rfl)
theorem dX2_moveClause_22 : decode cX2_moveClause 22 = .ok (.invokevirtual 183, 3) := dk_182 0 183 (dk_at dksX2_moveClause_1 0 rfl rfl)
theorem dX2_moveClause_25 : decode cX2_moveClause 25 = .ok (.istore_n 3, 1) := dk_62 (dk_at dksX2_moveClause_1 3 rfl rfl)
theorem dX2_moveClause_26 : decode cX2_moveClause 26 = .ok (.iload_n 2, 1) := dk_28 (dk_at dksX2_moveClause_1 4 rfl rfl)
theorem dX2_moveClause_27 : decode cX2_moveClause 27 = .ok (.ifCond .ne 23, 3) := dk_154 0 23 (dk_at dksX2_moveClause_1 5 rfl rfl)
theorem dX2_moveClause_30 : decode cX2_moveClause 30 = .ok (.iload_n 3, 1) := dk_29 (dk_at dksX2_moveClause_1 8 rfl rfl)
theorem dX2_moveClause_31 : decode cX2_moveClause 31 = .ok (.ifCond .ne 19, 3) := dk_154 0 19 (dk_at dksX2_moveClause_1 9 rfl rfl)
theorem dX2_moveClause_34 : decode cX2_moveClause 34 = .ok (.aload_n 0, 1) := dk_42 (dk_at dksX2_moveClause_1 12 rfl rfl)
theorem dX2_moveClause_35 : decode cX2_moveClause 35 = .ok (.bipush 111, 2) := dk_16 111 (dk_at dksX2_moveClause_1 13 rfl rfl)
theorem dX2_moveClause_37 : decode cX2_moveClause 37 = .ok (.bipush 110, 2) := dk_16 110 (dk_at dksX2_moveClause_1 15 rfl rfl)
theorem dX2_moveClause_39 : decode cX2_moveClause 39 = .ok (.invokestatic 115, 3) := dk_184 0 115 (dk_at dksX2_moveClause_1 17 rfl rfl)
theorem dX2_moveClause_42 : decode cX2_moveClause 42 = .ok (.invokevirtual 183, 3) := dk_182 0 183 (dk_at dksX2_moveClause_1 20 rfl rfl)
theorem dX2_moveClause_45 : decode cX2_moveClause 45 = .ok (.ifCond .ne 5, 3) := dk_154 0 5 (dk_at dksX2_moveClause_2 0 rfl rfl)
theorem dX2_moveClause_48 : decode cX2_moveClause 48 = .ok (.iconst 1, 1) := dk_4 (dk_at dksX2_moveClause_2 3 rfl rfl)
theorem dX2_moveClause_49 : decode cX2_moveClause 49 = .ok (.ireturn, 1) := dk_172 (dk_at dksX2_moveClause_2 4 rfl rfl)
theorem dX2_moveClause_50 : decode cX2_moveClause 50 = .ok (.aload_n 0, 1) := dk_42 (dk_at dksX2_moveClause_2 5 rfl rfl)
theorem dX2_moveClause_51 : decode cX2_moveClause 51 = .ok (.getfield 16, 3) := dk_180 0 16 (dk_at dksX2_moveClause_2 6 rfl rfl)
theorem dX2_moveClause_54 : decode cX2_moveClause 54 = .ok (.iload_n 1, 1) := dk_27 (dk_at dksX2_moveClause_2 9 rfl rfl)
theorem dX2_moveClause_55 : decode cX2_moveClause 55 = .ok (.iconst 1, 1) := dk_4 (dk_at dksX2_moveClause_2 10 rfl rfl)
theorem dX2_moveClause_56 : decode cX2_moveClause 56 = .ok (.iadd, 1) := dk_96 (dk_at dksX2_moveClause_2 11 rfl rfl)
theorem dX2_moveClause_57 : decode cX2_moveClause 57 = .ok (.iload_n 2, 1) := dk_28 (dk_at dksX2_moveClause_2 12 rfl rfl)
theorem dX2_moveClause_58 : decode cX2_moveClause 58 = .ok (.ifCond .eq 7, 3) := dk_153 0 7 (dk_at dksX2_moveClause_2 13 rfl rfl)
theorem dX2_moveClause_61 : decode cX2_moveClause 61 = .ok (.iconst 1, 1) := dk_4 (dk_at dksX2_moveClause_2 16 rfl rfl)
theorem dX2_moveClause_62 : decode cX2_moveClause 62 = .ok (.goto 12, 3) := dk_167 0 12 (dk_at dksX2_moveClause_2 17 rfl rfl)
theorem dX2_moveClause_65 : decode cX2_moveClause 65 = .ok (.iload_n 3, 1) := dk_29 (dk_at dksX2_moveClause_2 20 rfl rfl)
theorem dX2_moveClause_66 : decode cX2_moveClause 66 = .ok (.ifCond .eq 7, 3) := dk_153 0 7 (dk_at dksX2_moveClause_2 21 rfl rfl)
theorem dX2_moveClause_69 : decode cX2_moveClause 69 = .ok (.iconst (-1), 1) := dk_2 (dk_at dksX2_moveClause_3 0 rfl rfl)
theorem dX2_moveClause_70 : decode cX2_moveClause 70 = .ok (.goto 4, 3) := dk_167 0 4 (dk_at dksX2_moveClause_3 1 rfl rfl)
theorem dX2_moveClause_73 : decode cX2_moveClause 73 = .ok (.iconst 0, 1) := dk_3 (dk_at dksX2_moveClause_3 4 rfl rfl)
theorem dX2_moveClause_74 : decode cX2_moveClause 74 = .ok (.iastore, 1) := dk_79 (dk_at dksX2_moveClause_3 5 rfl rfl)
theorem dX2_moveClause_75 : decode cX2_moveClause 75 = .ok (.aload_n 0, 1) := dk_42 (dk_at dksX2_moveClause_3 6 rfl rfl)
theorem dX2_moveClause_76 : decode cX2_moveClause 76 = .ok (.invokevirtual 164, 3) := dk_182 0 164 (dk_at dksX2_moveClause_3 7 rfl rfl)
theorem dX2_moveClause_79 : decode cX2_moveClause 79 = .ok (.iconst 0, 1) := dk_3 (dk_at dksX2_moveClause_3 10 rfl rfl)
theorem dX2_moveClause_80 : decode cX2_moveClause 80 = .ok (.ireturn, 1) := dk_172 (dk_at dksX2_moveClause_3 11 rfl rfl)
abbrev cX2_lawClause : ByteArray := prog_19_method_46_code
def yX2_lawClause : MethodName := ⟨RX2, "lawClause", "(I)I"⟩
def dkwX2_lawClause_1 : List UInt8 := [42, 180, 0, 134, 79, 28, 172]
abbrev dktX2_lawClause_1 : List UInt8 := dkwX2_lawClause_1 ++ []
def dkwX2_lawClause_0 : List UInt8 := [42, 180, 0, 16, 27, 4, 96, 42, 180, 0, 134, 79, 42, 182, 0, 219, 61, 42, 180, 0, 16, 27, 5, 96]
abbrev dktX2_lawClause_0 : List UInt8 := dkwX2_lawClause_0 ++ dktX2_lawClause_1
theorem dksX2_lawClause_0 : cX2_lawClause.data.toList.drop 0 = dktX2_lawClause_0 := by decide +kernel
theorem dksX2_lawClause_1 : cX2_lawClause.data.toList.drop 24 = dktX2_lawClause_1 := dk_seg dksX2_lawClause_0 24 rfl rfl
theorem dX2_lawClause_0 : decode cX2_lawClause 0 = .ok (.aload_n 0, 1) := dk_42 (dk_at dksX2_lawClause_0 0 rfl rfl)
theorem dX2_lawClause_1 : decode cX2_lawClause 1 = .ok (.getfield 16, 3) := dk_180 0 16 (dk_at dksX2_lawClause_0 1 rfl rfl)
theorem dX2_lawClause_4 : decode cX2_lawClause 4 = .ok (.iload_n 1, 1) := dk_27 (dk_at dksX2_lawClause_0 4 rfl rfl)
theorem dX2_lawClause_5 : decode cX2_lawClause 5 = .ok (.iconst 1, 1) := dk_4 (dk_at dksX2_lawClause_0 5 rfl rfl)
theorem dX2_lawClause_6 : decode cX2_lawClause 6 = .ok (.iadd, 1) := dk_96 (dk_at dksX2_lawClause_0 6 rfl rfl)
theorem dX2_lawClause_7 : decode cX2_lawClause 7 = .ok (.aload_n 0, 1) := dk_42 (dk_at dksX2_lawClause_0 7 rfl rfl)
theorem dX2_lawClause_8 : decode cX2_lawClause 8 = .ok (.getfield 134, 3) := dk_180 0 134 (dk_at dksX2_lawClause_0 8 rfl rfl)
theorem dX2_lawClause_11 : decode cX2_lawClause 11 = .ok (.iastore, 1) := dk_79 (dk_at dksX2_lawClause_0 11 rfl rfl)
theorem dX2_lawClause_12 : decode cX2_lawClause 12 = .ok (.aload_n 0, 1) := dk_42 (dk_at dksX2_lawClause_0 12 rfl rfl)
theorem dX2_lawClause_13 : decode cX2_lawClause 13 = .ok (.invokevirtual 219, 3) := dk_182 0 219 (dk_at dksX2_lawClause_0 13 rfl rfl)
theorem dX2_lawClause_16 : decode cX2_lawClause 16 = .ok (.istore_n 2, 1) := dk_61 (dk_at dksX2_lawClause_0 16 rfl rfl)
theorem dX2_lawClause_17 : decode cX2_lawClause 17 = .ok (.aload_n 0, 1) := dk_42 (dk_at dksX2_lawClause_0 17 rfl rfl)
theorem dX2_lawClause_18 : decode cX2_lawClause 18 = .ok (.getfield 16, 3) := dk_180 0 16 (dk_at dksX2_lawClause_0 18 rfl rfl)
theorem dX2_lawClause_21 : decode cX2_lawClause 21 = .ok (.iload_n 1, 1) := dk_27 (dk_at dksX2_lawClause_0 21 rfl rfl)
theorem dX2_lawClause_22 : decode cX2_lawClause 22 = .ok (.iconst 2, 1) := dk_5 (dk_at dksX2_lawClause_0 22 rfl rfl)
theorem dX2_lawClause_23 : decode cX2_lawClause 23 = .ok (.iadd, 1) := dk_96 (dk_at dksX2_lawClause_0 23 rfl rfl)
theorem dX2_lawClause_24 : decode cX2_lawClause 24 = .ok (.aload_n 0, 1) := dk_42 (dk_at dksX2_lawClause_1 0 rfl rfl)
theorem dX2_lawClause_25 : decode cX2_lawClause 25 = .ok (.getfield 134, 3) := dk_180 0 134 (dk_at dksX2_lawClause_1 1 rfl rfl)
theorem dX2_lawClause_28 : decode cX2_lawClause 28 = .ok (.iastore, 1) := dk_79 (dk_at dksX2_lawClause_1 4 rfl rfl)
theorem dX2_lawClause_29 : decode cX2_lawClause 29 = .ok (.iload_n 2, 1) := dk_28 (dk_at dksX2_lawClause_1 5 rfl rfl)
theorem dX2_lawClause_30 : decode cX2_lawClause 30 = .ok (.ireturn, 1) := dk_172 (dk_at dksX2_lawClause_1 6 rfl rfl)
abbrev cX2_summed : ByteArray := prog_19_method_43_code
def yX2_summed : MethodName := ⟨RX2, "summed", "()I"⟩
def dkwX2_summed_2 : List UInt8 := [172, 42, 182, 0, 212, 60, 27, 153, 0, 5, 27, 172, 167, 255, 212]
abbrev dktX2_summed_2 : List UInt8 := dkwX2_summed_2 ++ []
def dkwX2_summed_1 : List UInt8 := [182, 0, 209, 153, 0, 6, 167, 255, 242, 42, 182, 0, 161, 155, 0, 5, 4, 172, 42, 4, 182, 0, 171, 3]
abbrev dktX2_summed_1 : List UInt8 := dkwX2_summed_1 ++ dktX2_summed_2
def dkwX2_summed_0 : List UInt8 := [42, 3, 181, 0, 144, 42, 3, 181, 0, 154, 42, 3, 181, 0, 167, 42, 180, 0, 167, 153, 0, 29, 42]
abbrev dktX2_summed_0 : List UInt8 := dkwX2_summed_0 ++ dktX2_summed_1
theorem dksX2_summed_0 : cX2_summed.data.toList.drop 0 = dktX2_summed_0 := by decide +kernel
theorem dksX2_summed_1 : cX2_summed.data.toList.drop 23 = dktX2_summed_1 := dk_seg dksX2_summed_0 23 rfl rfl
theorem dksX2_summed_2 : cX2_summed.data.toList.drop 47 = dktX2_summed_2 := dk_seg dksX2_summed_1 24 rfl rfl
theorem dX2_summed_0 : decode cX2_summed 0 = .ok (.aload_n 0, 1) := dk_42 (dk_at dksX2_summed_0 0 rfl rfl)
theorem dX2_summed_1 : decode cX2_summed 1 = .ok (.iconst 0, 1) := dk_3 (dk_at dksX2_summed_0 1 rfl rfl)
theorem dX2_summed_2 : decode cX2_summed 2 = .ok (.putfield 144, 3) := dk_181 0 144 (dk_at dksX2_summed_0 2 rfl rfl)
theorem dX2_summed_5 : decode cX2_summed 5 = .ok (.aload_n 0, 1) := dk_42 (dk_at dksX2_summed_0 5 rfl rfl)
theorem dX2_summed_6 : decode cX2_summed 6 = .ok (.iconst 0, 1) := dk_3 (dk_at dksX2_summed_0 6 rfl rfl)
theorem dX2_summed_7 : decode cX2_summed 7 = .ok (.putfield 154, 3) := dk_181 0 154 (dk_at dksX2_summed_0 7 rfl rfl)
theorem dX2_summed_10 : decode cX2_summed 10 = .ok (.aload_n 0, 1) := dk_42 (dk_at dksX2_summed_0 10 rfl rfl)
theorem dX2_summed_11 : decode cX2_summed 11 = .ok (.iconst 0, 1) := dk_3 (dk_at dksX2_summed_0 11 rfl rfl)
theorem dX2_summed_12 : decode cX2_summed 12 = .ok (.putfield 167, 3) := dk_181 0 167 (dk_at dksX2_summed_0 12 rfl rfl)
theorem dX2_summed_15 : decode cX2_summed 15 = .ok (.aload_n 0, 1) := dk_42 (dk_at dksX2_summed_0 15 rfl rfl)
theorem dX2_summed_16 : decode cX2_summed 16 = .ok (.getfield 167, 3) := dk_180 0 167 (dk_at dksX2_summed_0 16 rfl rfl)
theorem dX2_summed_19 : decode cX2_summed 19 = .ok (.ifCond .eq 29, 3) := dk_153 0 29 (dk_at dksX2_summed_0 19 rfl rfl)
theorem dX2_summed_22 : decode cX2_summed 22 = .ok (.aload_n 0, 1) := dk_42 (dk_at dksX2_summed_0 22 rfl rfl)
theorem dX2_summed_23 : decode cX2_summed 23 = .ok (.invokevirtual 209, 3) := dk_182 0 209 (dk_at dksX2_summed_1 0 rfl rfl)
theorem dX2_summed_26 : decode cX2_summed 26 = .ok (.ifCond .eq 6, 3) := dk_153 0 6 (dk_at dksX2_summed_1 3 rfl rfl)
theorem dX2_summed_29 : decode cX2_summed 29 = .ok (.goto (-14), 3) := dk_167 255 242 (dk_at dksX2_summed_1 6 rfl rfl)
theorem dX2_summed_32 : decode cX2_summed 32 = .ok (.aload_n 0, 1) := dk_42 (dk_at dksX2_summed_1 9 rfl rfl)
theorem dX2_summed_33 : decode cX2_summed 33 = .ok (.invokevirtual 161, 3) := dk_182 0 161 (dk_at dksX2_summed_1 10 rfl rfl)
theorem dX2_summed_36 : decode cX2_summed 36 = .ok (.ifCond .lt 5, 3) := dk_155 0 5 (dk_at dksX2_summed_1 13 rfl rfl)
theorem dX2_summed_39 : decode cX2_summed 39 = .ok (.iconst 1, 1) := dk_4 (dk_at dksX2_summed_1 16 rfl rfl)
theorem dX2_summed_40 : decode cX2_summed 40 = .ok (.ireturn, 1) := dk_172 (dk_at dksX2_summed_1 17 rfl rfl)
theorem dX2_summed_41 : decode cX2_summed 41 = .ok (.aload_n 0, 1) := dk_42 (dk_at dksX2_summed_1 18 rfl rfl)
theorem dX2_summed_42 : decode cX2_summed 42 = .ok (.iconst 1, 1) := dk_4 (dk_at dksX2_summed_1 19 rfl rfl)
theorem dX2_summed_43 : decode cX2_summed 43 = .ok (.invokevirtual 171, 3) := dk_182 0 171 (dk_at dksX2_summed_1 20 rfl rfl)
theorem dX2_summed_46 : decode cX2_summed 46 = .ok (.iconst 0, 1) := dk_3 (dk_at dksX2_summed_1 23 rfl rfl)
theorem dX2_summed_47 : decode cX2_summed 47 = .ok (.ireturn, 1) := dk_172 (dk_at dksX2_summed_2 0 rfl rfl)
theorem dX2_summed_48 : decode cX2_summed 48 = .ok (.aload_n 0, 1) := dk_42 (dk_at dksX2_summed_2 1 rfl rfl)
theorem dX2_summed_49 : decode cX2_summed 49 = .ok (.invokevirtual 212, 3) := dk_182 0 212 (dk_at dksX2_summed_2 2 rfl rfl)
theorem dX2_summed_52 : decode cX2_summed 52 = .ok (.istore_n 1, 1) := dk_60 (dk_at dksX2_summed_2 5 rfl rfl)
theorem dX2_summed_53 : decode cX2_summed 53 = .ok (.iload_n 1, 1) := dk_27 (dk_at dksX2_summed_2 6 rfl rfl)
theorem dX2_summed_54 : decode cX2_summed 54 = .ok (.ifCond .eq 5, 3) := dk_153 0 5 (dk_at dksX2_summed_2 7 rfl rfl)
theorem dX2_summed_57 : decode cX2_summed 57 = .ok (.iload_n 1, 1) := dk_27 (dk_at dksX2_summed_2 10 rfl rfl)
theorem dX2_summed_58 : decode cX2_summed 58 = .ok (.ireturn, 1) := dk_172 (dk_at dksX2_summed_2 11 rfl rfl)
theorem dX2_summed_59 : decode cX2_summed 59 = .ok (.goto (-44), 3) := dk_167 255 212 (dk_at dksX2_summed_2 12 rfl rfl)
abbrev cX2_behindOne : ByteArray := prog_19_method_42_code
def yX2_behindOne : MethodName := ⟨RX2, "behindOne", "()Z"⟩
def dkwX2_behindOne_5 : List UInt8 := [16, 43, 160, 0, 9, 42, 6, 3, 182, 0, 150, 42, 182, 0, 164, 42, 16, 7, 182, 0, 171, 4, 172]
abbrev dktX2_behindOne_5 : List UInt8 := dkwX2_behindOne_5 ++ []
def dkwX2_behindOne_4 : List UInt8 := [167, 0, 45, 42, 89, 180, 0, 144, 4, 100, 181, 0, 144, 42, 89, 180, 0, 154, 4, 100, 181, 0, 154, 28]
abbrev dktX2_behindOne_4 : List UInt8 := dkwX2_behindOne_4 ++ dktX2_behindOne_5
def dkwX2_behindOne_3 : List UInt8 := [29, 158, 0, 25, 42, 180, 0, 29, 42, 182, 0, 157, 29, 79, 42, 3, 181, 0, 167, 42, 182, 0, 164]
abbrev dktX2_behindOne_3 : List UInt8 := dkwX2_behindOne_3 ++ dktX2_behindOne_4
def dkwX2_behindOne_2 : List UInt8 := [4, 172, 42, 182, 0, 161, 61, 42, 28, 182, 0, 206, 62, 29, 156, 0, 5, 3, 172, 42, 4, 182, 0, 171]
abbrev dktX2_behindOne_2 : List UInt8 := dkwX2_behindOne_2 ++ dktX2_behindOne_3
def dkwX2_behindOne_1 : List UInt8 := [180, 0, 144, 27, 79, 42, 89, 180, 0, 144, 4, 96, 181, 0, 144, 42, 3, 181, 0, 167, 42, 182, 0, 164]
abbrev dktX2_behindOne_1 : List UInt8 := dkwX2_behindOne_1 ++ dktX2_behindOne_2
def dkwX2_behindOne_0 : List UInt8 := [42, 182, 0, 203, 60, 27, 155, 0, 42, 42, 27, 184, 0, 147, 182, 0, 171, 42, 180, 0, 29, 42]
abbrev dktX2_behindOne_0 : List UInt8 := dkwX2_behindOne_0 ++ dktX2_behindOne_1
theorem dksX2_behindOne_0 : cX2_behindOne.data.toList.drop 0 = dktX2_behindOne_0 := by decide +kernel
theorem dksX2_behindOne_1 : cX2_behindOne.data.toList.drop 22 = dktX2_behindOne_1 := dk_seg dksX2_behindOne_0 22 rfl rfl
theorem dksX2_behindOne_2 : cX2_behindOne.data.toList.drop 46 = dktX2_behindOne_2 := dk_seg dksX2_behindOne_1 24 rfl rfl
theorem dksX2_behindOne_3 : cX2_behindOne.data.toList.drop 70 = dktX2_behindOne_3 := dk_seg dksX2_behindOne_2 24 rfl rfl
theorem dksX2_behindOne_4 : cX2_behindOne.data.toList.drop 93 = dktX2_behindOne_4 := dk_seg dksX2_behindOne_3 23 rfl rfl
theorem dksX2_behindOne_5 : cX2_behindOne.data.toList.drop 117 = dktX2_behindOne_5 := dk_seg dksX2_behindOne_4 24 rfl rfl
theorem dX2_behindOne_0 : decode cX2_behindOne 0 = .ok (.aload_n 0, 1) := dk_42 (dk_at dksX2_behindOne_0 0 rfl rfl)
theorem dX2_behindOne_1 : decode cX2_behindOne 1 = .ok (.invokevirtual 203, 3) := dk_182 0 203 (dk_at dksX2_behindOne_0 1 rfl rfl)
theorem dX2_behindOne_4 : decode cX2_behindOne 4 = .ok (.istore_n 1, 1) := dk_60 (dk_at dksX2_behindOne_0 4 rfl rfl)
theorem dX2_behindOne_5 : decode cX2_behindOne 5 = .ok (.iload_n 1, 1) := dk_27 (dk_at dksX2_behindOne_0 5 rfl rfl)
theorem dX2_behindOne_6 : decode cX2_behindOne 6 = .ok (.ifCond .lt 42, 3) := dk_155 0 42 (dk_at dksX2_behindOne_0 6 rfl rfl)
theorem dX2_behindOne_9 : decode cX2_behindOne 9 = .ok (.aload_n 0, 1) := dk_42 (dk_at dksX2_behindOne_0 9 rfl rfl)
theorem dX2_behindOne_10 : decode cX2_behindOne 10 = .ok (.iload_n 1, 1) := dk_27 (dk_at dksX2_behindOne_0 10 rfl rfl)
theorem dX2_behindOne_11 : decode cX2_behindOne 11 = .ok (.invokestatic 147, 3) := dk_184 0 147 (dk_at dksX2_behindOne_0 11 rfl rfl)
theorem dX2_behindOne_14 : decode cX2_behindOne 14 = .ok (.invokevirtual 171, 3) := dk_182 0 171 (dk_at dksX2_behindOne_0 14 rfl rfl)
theorem dX2_behindOne_17 : decode cX2_behindOne 17 = .ok (.aload_n 0, 1) := dk_42 (dk_at dksX2_behindOne_0 17 rfl rfl)
theorem dX2_behindOne_18 : decode cX2_behindOne 18 = .ok (.getfield 29, 3) := dk_180 0 29 (dk_at dksX2_behindOne_0 18 rfl rfl)
theorem dX2_behindOne_21 : decode cX2_behindOne 21 = .ok (.aload_n 0, 1) := dk_42 (dk_at dksX2_behindOne_0 21 rfl rfl)
theorem dX2_behindOne_22 : decode cX2_behindOne 22 = .ok (.getfield 144, 3) := dk_180 0 144 (dk_at dksX2_behindOne_1 0 rfl rfl)
theorem dX2_behindOne_25 : decode cX2_behindOne 25 = .ok (.iload_n 1, 1) := dk_27 (dk_at dksX2_behindOne_1 3 rfl rfl)
theorem dX2_behindOne_26 : decode cX2_behindOne 26 = .ok (.iastore, 1) := dk_79 (dk_at dksX2_behindOne_1 4 rfl rfl)
theorem dX2_behindOne_27 : decode cX2_behindOne 27 = .ok (.aload_n 0, 1) := dk_42 (dk_at dksX2_behindOne_1 5 rfl rfl)
theorem dX2_behindOne_28 : decode cX2_behindOne 28 = .ok (.dup, 1) := dk_89 (dk_at dksX2_behindOne_1 6 rfl rfl)
theorem dX2_behindOne_29 : decode cX2_behindOne 29 = .ok (.getfield 144, 3) := dk_180 0 144 (dk_at dksX2_behindOne_1 7 rfl rfl)
theorem dX2_behindOne_32 : decode cX2_behindOne 32 = .ok (.iconst 1, 1) := dk_4 (dk_at dksX2_behindOne_1 10 rfl rfl)
theorem dX2_behindOne_33 : decode cX2_behindOne 33 = .ok (.iadd, 1) := dk_96 (dk_at dksX2_behindOne_1 11 rfl rfl)
theorem dX2_behindOne_34 : decode cX2_behindOne 34 = .ok (.putfield 144, 3) := dk_181 0 144 (dk_at dksX2_behindOne_1 12 rfl rfl)
theorem dX2_behindOne_37 : decode cX2_behindOne 37 = .ok (.aload_n 0, 1) := dk_42 (dk_at dksX2_behindOne_1 15 rfl rfl)
theorem dX2_behindOne_38 : decode cX2_behindOne 38 = .ok (.iconst 0, 1) := dk_3 (dk_at dksX2_behindOne_1 16 rfl rfl)
theorem dX2_behindOne_39 : decode cX2_behindOne 39 = .ok (.putfield 167, 3) := dk_181 0 167 (dk_at dksX2_behindOne_1 17 rfl rfl)
theorem dX2_behindOne_42 : decode cX2_behindOne 42 = .ok (.aload_n 0, 1) := dk_42 (dk_at dksX2_behindOne_1 20 rfl rfl)
theorem dX2_behindOne_43 : decode cX2_behindOne 43 = .ok (.invokevirtual 164, 3) := dk_182 0 164 (dk_at dksX2_behindOne_1 21 rfl rfl)
theorem dX2_behindOne_46 : decode cX2_behindOne 46 = .ok (.iconst 1, 1) := dk_4 (dk_at dksX2_behindOne_2 0 rfl rfl)
theorem dX2_behindOne_47 : decode cX2_behindOne 47 = .ok (.ireturn, 1) := dk_172 (dk_at dksX2_behindOne_2 1 rfl rfl)
theorem dX2_behindOne_48 : decode cX2_behindOne 48 = .ok (.aload_n 0, 1) := dk_42 (dk_at dksX2_behindOne_2 2 rfl rfl)
theorem dX2_behindOne_49 : decode cX2_behindOne 49 = .ok (.invokevirtual 161, 3) := dk_182 0 161 (dk_at dksX2_behindOne_2 3 rfl rfl)
theorem dX2_behindOne_52 : decode cX2_behindOne 52 = .ok (.istore_n 2, 1) := dk_61 (dk_at dksX2_behindOne_2 6 rfl rfl)
theorem dX2_behindOne_53 : decode cX2_behindOne 53 = .ok (.aload_n 0, 1) := dk_42 (dk_at dksX2_behindOne_2 7 rfl rfl)
theorem dX2_behindOne_54 : decode cX2_behindOne 54 = .ok (.iload_n 2, 1) := dk_28 (dk_at dksX2_behindOne_2 8 rfl rfl)
theorem dX2_behindOne_55 : decode cX2_behindOne 55 = .ok (.invokevirtual 206, 3) := dk_182 0 206 (dk_at dksX2_behindOne_2 9 rfl rfl)
theorem dX2_behindOne_58 : decode cX2_behindOne 58 = .ok (.istore_n 3, 1) := dk_62 (dk_at dksX2_behindOne_2 12 rfl rfl)
theorem dX2_behindOne_59 : decode cX2_behindOne 59 = .ok (.iload_n 3, 1) := dk_29 (dk_at dksX2_behindOne_2 13 rfl rfl)
theorem dX2_behindOne_60 : decode cX2_behindOne 60 = .ok (.ifCond .ge 5, 3) := dk_156 0 5 (dk_at dksX2_behindOne_2 14 rfl rfl)
theorem dX2_behindOne_63 : decode cX2_behindOne 63 = .ok (.iconst 0, 1) := dk_3 (dk_at dksX2_behindOne_2 17 rfl rfl)
theorem dX2_behindOne_64 : decode cX2_behindOne 64 = .ok (.ireturn, 1) := dk_172 (dk_at dksX2_behindOne_2 18 rfl rfl)
theorem dX2_behindOne_65 : decode cX2_behindOne 65 = .ok (.aload_n 0, 1) := dk_42 (dk_at dksX2_behindOne_2 19 rfl rfl)
theorem dX2_behindOne_66 : decode cX2_behindOne 66 = .ok (.iconst 1, 1) := dk_4 (dk_at dksX2_behindOne_2 20 rfl rfl)
theorem dX2_behindOne_67 : decode cX2_behindOne 67 = .ok (.invokevirtual 171, 3) := dk_182 0 171 (dk_at dksX2_behindOne_2 21 rfl rfl)
theorem dX2_behindOne_70 : decode cX2_behindOne 70 = .ok (.iload_n 3, 1) := dk_29 (dk_at dksX2_behindOne_3 0 rfl rfl)
theorem dX2_behindOne_71 : decode cX2_behindOne 71 = .ok (.ifCond .le 25, 3) := dk_158 0 25 (dk_at dksX2_behindOne_3 1 rfl rfl)
theorem dX2_behindOne_74 : decode cX2_behindOne 74 = .ok (.aload_n 0, 1) := dk_42 (dk_at dksX2_behindOne_3 4 rfl rfl)
theorem dX2_behindOne_75 : decode cX2_behindOne 75 = .ok (.getfield 29, 3) := dk_180 0 29 (dk_at dksX2_behindOne_3 5 rfl rfl)
theorem dX2_behindOne_78 : decode cX2_behindOne 78 = .ok (.aload_n 0, 1) := dk_42 (dk_at dksX2_behindOne_3 8 rfl rfl)
theorem dX2_behindOne_79 : decode cX2_behindOne 79 = .ok (.invokevirtual 157, 3) := dk_182 0 157 (dk_at dksX2_behindOne_3 9 rfl rfl)
theorem dX2_behindOne_82 : decode cX2_behindOne 82 = .ok (.iload_n 3, 1) := dk_29 (dk_at dksX2_behindOne_3 12 rfl rfl)
theorem dX2_behindOne_83 : decode cX2_behindOne 83 = .ok (.iastore, 1) := dk_79 (dk_at dksX2_behindOne_3 13 rfl rfl)
theorem dX2_behindOne_84 : decode cX2_behindOne 84 = .ok (.aload_n 0, 1) := dk_42 (dk_at dksX2_behindOne_3 14 rfl rfl)
theorem dX2_behindOne_85 : decode cX2_behindOne 85 = .ok (.iconst 0, 1) := dk_3 (dk_at dksX2_behindOne_3 15 rfl rfl)
theorem dX2_behindOne_86 : decode cX2_behindOne 86 = .ok (.putfield 167, 3) := dk_181 0 167 (dk_at dksX2_behindOne_3 16 rfl rfl)
theorem dX2_behindOne_89 : decode cX2_behindOne 89 = .ok (.aload_n 0, 1) := dk_42 (dk_at dksX2_behindOne_3 19 rfl rfl)
theorem dX2_behindOne_90 : decode cX2_behindOne 90 = .ok (.invokevirtual 164, 3) := dk_182 0 164 (dk_at dksX2_behindOne_3 20 rfl rfl)
theorem dX2_behindOne_93 : decode cX2_behindOne 93 = .ok (.goto 45, 3) := dk_167 0 45 (dk_at dksX2_behindOne_4 0 rfl rfl)
theorem dX2_behindOne_96 : decode cX2_behindOne 96 = .ok (.aload_n 0, 1) := dk_42 (dk_at dksX2_behindOne_4 3 rfl rfl)
theorem dX2_behindOne_97 : decode cX2_behindOne 97 = .ok (.dup, 1) := dk_89 (dk_at dksX2_behindOne_4 4 rfl rfl)
theorem dX2_behindOne_98 : decode cX2_behindOne 98 = .ok (.getfield 144, 3) := dk_180 0 144 (dk_at dksX2_behindOne_4 5 rfl rfl)
theorem dX2_behindOne_101 : decode cX2_behindOne 101 = .ok (.iconst 1, 1) := dk_4 (dk_at dksX2_behindOne_4 8 rfl rfl)
theorem dX2_behindOne_102 : decode cX2_behindOne 102 = .ok (.isub, 1) := dk_100 (dk_at dksX2_behindOne_4 9 rfl rfl)
theorem dX2_behindOne_103 : decode cX2_behindOne 103 = .ok (.putfield 144, 3) := dk_181 0 144 (dk_at dksX2_behindOne_4 10 rfl rfl)
theorem dX2_behindOne_106 : decode cX2_behindOne 106 = .ok (.aload_n 0, 1) := dk_42 (dk_at dksX2_behindOne_4 13 rfl rfl)
theorem dX2_behindOne_107 : decode cX2_behindOne 107 = .ok (.dup, 1) := dk_89 (dk_at dksX2_behindOne_4 14 rfl rfl)
theorem dX2_behindOne_108 : decode cX2_behindOne 108 = .ok (.getfield 154, 3) := dk_180 0 154 (dk_at dksX2_behindOne_4 15 rfl rfl)
theorem dX2_behindOne_111 : decode cX2_behindOne 111 = .ok (.iconst 1, 1) := dk_4 (dk_at dksX2_behindOne_4 18 rfl rfl)
theorem dX2_behindOne_112 : decode cX2_behindOne 112 = .ok (.isub, 1) := dk_100 (dk_at dksX2_behindOne_4 19 rfl rfl)
theorem dX2_behindOne_113 : decode cX2_behindOne 113 = .ok (.putfield 154, 3) := dk_181 0 154 (dk_at dksX2_behindOne_4 20 rfl rfl)
theorem dX2_behindOne_116 : decode cX2_behindOne 116 = .ok (.iload_n 2, 1) := dk_28 (dk_at dksX2_behindOne_4 23 rfl rfl)
theorem dX2_behindOne_117 : decode cX2_behindOne 117 = .ok (.bipush 43, 2) := dk_16 43 (dk_at dksX2_behindOne_5 0 rfl rfl)
theorem dX2_behindOne_119 : decode cX2_behindOne 119 = .ok (.if_icmp .ne 9, 3) := dk_160 0 9 (dk_at dksX2_behindOne_5 2 rfl rfl)
theorem dX2_behindOne_122 : decode cX2_behindOne 122 = .ok (.aload_n 0, 1) := dk_42 (dk_at dksX2_behindOne_5 5 rfl rfl)
theorem dX2_behindOne_123 : decode cX2_behindOne 123 = .ok (.iconst 3, 1) := dk_6 (dk_at dksX2_behindOne_5 6 rfl rfl)
theorem dX2_behindOne_124 : decode cX2_behindOne 124 = .ok (.iconst 0, 1) := dk_3 (dk_at dksX2_behindOne_5 7 rfl rfl)
theorem dX2_behindOne_125 : decode cX2_behindOne 125 = .ok (.invokevirtual 150, 3) := dk_182 0 150 (dk_at dksX2_behindOne_5 8 rfl rfl)
theorem dX2_behindOne_128 : decode cX2_behindOne 128 = .ok (.aload_n 0, 1) := dk_42 (dk_at dksX2_behindOne_5 11 rfl rfl)
theorem dX2_behindOne_129 : decode cX2_behindOne 129 = .ok (.invokevirtual 164, 3) := dk_182 0 164 (dk_at dksX2_behindOne_5 12 rfl rfl)
theorem dX2_behindOne_132 : decode cX2_behindOne 132 = .ok (.aload_n 0, 1) := dk_42 (dk_at dksX2_behindOne_5 15 rfl rfl)
theorem dX2_behindOne_133 : decode cX2_behindOne 133 = .ok (.bipush 7, 2) := dk_16 7 (dk_at dksX2_behindOne_5 16 rfl rfl)
theorem dX2_behindOne_135 : decode cX2_behindOne 135 = .ok (.invokevirtual 171, 3) := dk_182 0 171 (dk_at dksX2_behindOne_5 18 rfl rfl)
theorem dX2_behindOne_138 : decode cX2_behindOne 138 = .ok (.iconst 1, 1) := dk_4 (dk_at dksX2_behindOne_5 21 rfl rfl)
theorem dX2_behindOne_139 : decode cX2_behindOne 139 = .ok (.ireturn, 1) := dk_172 (dk_at dksX2_behindOne_5 22 rfl rfl)
abbrev cX2_betweenOf : ByteArray := prog_19_method_40_code
def yX2_betweenOf : MethodName := ⟨RX2, "betweenOf", "()I"⟩
def dkwX2_betweenOf_4 : List UInt8 := [16, 114, 184, 0, 115, 182, 0, 183, 153, 0, 8, 16, 22, 167, 0, 4, 2, 172]
abbrev dktX2_betweenOf_4 : List UInt8 := dkwX2_betweenOf_4 ++ []
def dkwX2_betweenOf_3 : List UInt8 := [16, 97, 16, 110, 16, 100, 184, 0, 119, 182, 0, 183, 153, 0, 8, 16, 21, 167, 0, 23, 42, 16, 111]
abbrev dktX2_betweenOf_3 : List UInt8 := dkwX2_betweenOf_3 ++ dktX2_betweenOf_4
def dkwX2_betweenOf_2 : List UInt8 := [42, 182, 0, 161, 16, 41, 159, 0, 5, 2, 172, 42, 182, 0, 197, 154, 0, 8, 42, 182, 0, 200, 172, 42]
abbrev dktX2_betweenOf_2 : List UInt8 := dkwX2_betweenOf_2 ++ dktX2_betweenOf_3
def dkwX2_betweenOf_1 : List UInt8 := [42, 180, 0, 92, 16, 42, 160, 0, 6, 16, 8, 172, 42, 180, 0, 92, 16, 47, 160, 0, 6, 16, 9, 172]
abbrev dktX2_betweenOf_1 : List UInt8 := dkwX2_betweenOf_1 ++ dktX2_betweenOf_2
def dkwX2_betweenOf_0 : List UInt8 := [42, 180, 0, 92, 16, 43, 160, 0, 6, 16, 6, 172, 42, 180, 0, 92, 16, 45, 160, 0, 6, 16, 7, 172]
abbrev dktX2_betweenOf_0 : List UInt8 := dkwX2_betweenOf_0 ++ dktX2_betweenOf_1
theorem dksX2_betweenOf_0 : cX2_betweenOf.data.toList.drop 0 = dktX2_betweenOf_0 := by decide +kernel
theorem dksX2_betweenOf_1 : cX2_betweenOf.data.toList.drop 24 = dktX2_betweenOf_1 := dk_seg dksX2_betweenOf_0 24 rfl rfl
theorem dksX2_betweenOf_2 : cX2_betweenOf.data.toList.drop 48 = dktX2_betweenOf_2 := dk_seg dksX2_betweenOf_1 24 rfl rfl
theorem dksX2_betweenOf_3 : cX2_betweenOf.data.toList.drop 72 = dktX2_betweenOf_3 := dk_seg dksX2_betweenOf_2 24 rfl rfl
theorem dksX2_betweenOf_4 : cX2_betweenOf.data.toList.drop 95 = dktX2_betweenOf_4 := dk_seg dksX2_betweenOf_3 23 rfl rfl
theorem dX2_betweenOf_0 : decode cX2_betweenOf 0 = .ok (.aload_n 0, 1) := dk_42 (dk_at dksX2_betweenOf_0 0 rfl rfl)
theorem dX2_betweenOf_1 : decode cX2_betweenOf 1 = .ok (.getfield 92, 3) := dk_180 0 92 (dk_at dksX2_betweenOf_0 1 rfl rfl)
theorem dX2_betweenOf_4 : decode cX2_betweenOf 4 = .ok (.bipush 43, 2) := dk_16 43 (dk_at dksX2_betweenOf_0 4 rfl rfl)
theorem dX2_betweenOf_6 : decode cX2_betweenOf 6 = .ok (.if_icmp .ne 6, 3) := dk_160 0 6 (dk_at dksX2_betweenOf_0 6 rfl rfl)
theorem dX2_betweenOf_9 : decode cX2_betweenOf 9 = .ok (.bipush 6, 2) := dk_16 6 (dk_at dksX2_betweenOf_0 9 rfl rfl)
theorem dX2_betweenOf_11 : decode cX2_betweenOf 11 = .ok (.ireturn, 1) := dk_172 (dk_at dksX2_betweenOf_0 11 rfl rfl)
theorem dX2_betweenOf_12 : decode cX2_betweenOf 12 = .ok (.aload_n 0, 1) := dk_42 (dk_at dksX2_betweenOf_0 12 rfl rfl)
theorem dX2_betweenOf_13 : decode cX2_betweenOf 13 = .ok (.getfield 92, 3) := dk_180 0 92 (dk_at dksX2_betweenOf_0 13 rfl rfl)
theorem dX2_betweenOf_16 : decode cX2_betweenOf 16 = .ok (.bipush 45, 2) := dk_16 45 (dk_at dksX2_betweenOf_0 16 rfl rfl)
theorem dX2_betweenOf_18 : decode cX2_betweenOf 18 = .ok (.if_icmp .ne 6, 3) := dk_160 0 6 (dk_at dksX2_betweenOf_0 18 rfl rfl)
theorem dX2_betweenOf_21 : decode cX2_betweenOf 21 = .ok (.bipush 7, 2) := dk_16 7 (dk_at dksX2_betweenOf_0 21 rfl rfl)
theorem dX2_betweenOf_23 : decode cX2_betweenOf 23 = .ok (.ireturn, 1) := dk_172 (dk_at dksX2_betweenOf_0 23 rfl rfl)
theorem dX2_betweenOf_24 : decode cX2_betweenOf 24 = .ok (.aload_n 0, 1) := dk_42 (dk_at dksX2_betweenOf_1 0 rfl rfl)
theorem dX2_betweenOf_25 : decode cX2_betweenOf 25 = .ok (.getfield 92, 3) := dk_180 0 92 (dk_at dksX2_betweenOf_1 1 rfl rfl)
theorem dX2_betweenOf_28 : decode cX2_betweenOf 28 = .ok (.bipush 42, 2) := dk_16 42 (dk_at dksX2_betweenOf_1 4 rfl rfl)
theorem dX2_betweenOf_30 : decode cX2_betweenOf 30 = .ok (.if_icmp .ne 6, 3) := dk_160 0 6 (dk_at dksX2_betweenOf_1 6 rfl rfl)
theorem dX2_betweenOf_33 : decode cX2_betweenOf 33 = .ok (.bipush 8, 2) := dk_16 8 (dk_at dksX2_betweenOf_1 9 rfl rfl)
theorem dX2_betweenOf_35 : decode cX2_betweenOf 35 = .ok (.ireturn, 1) := dk_172 (dk_at dksX2_betweenOf_1 11 rfl rfl)
theorem dX2_betweenOf_36 : decode cX2_betweenOf 36 = .ok (.aload_n 0, 1) := dk_42 (dk_at dksX2_betweenOf_1 12 rfl rfl)
theorem dX2_betweenOf_37 : decode cX2_betweenOf 37 = .ok (.getfield 92, 3) := dk_180 0 92 (dk_at dksX2_betweenOf_1 13 rfl rfl)
theorem dX2_betweenOf_40 : decode cX2_betweenOf 40 = .ok (.bipush 47, 2) := dk_16 47 (dk_at dksX2_betweenOf_1 16 rfl rfl)
theorem dX2_betweenOf_42 : decode cX2_betweenOf 42 = .ok (.if_icmp .ne 6, 3) := dk_160 0 6 (dk_at dksX2_betweenOf_1 18 rfl rfl)
theorem dX2_betweenOf_45 : decode cX2_betweenOf 45 = .ok (.bipush 9, 2) := dk_16 9 (dk_at dksX2_betweenOf_1 21 rfl rfl)
theorem dX2_betweenOf_47 : decode cX2_betweenOf 47 = .ok (.ireturn, 1) := dk_172 (dk_at dksX2_betweenOf_1 23 rfl rfl)
theorem dX2_betweenOf_48 : decode cX2_betweenOf 48 = .ok (.aload_n 0, 1) := dk_42 (dk_at dksX2_betweenOf_2 0 rfl rfl)
theorem dX2_betweenOf_49 : decode cX2_betweenOf 49 = .ok (.invokevirtual 161, 3) := dk_182 0 161 (dk_at dksX2_betweenOf_2 1 rfl rfl)
theorem dX2_betweenOf_52 : decode cX2_betweenOf 52 = .ok (.bipush 41, 2) := dk_16 41 (dk_at dksX2_betweenOf_2 4 rfl rfl)
theorem dX2_betweenOf_54 : decode cX2_betweenOf 54 = .ok (.if_icmp .eq 5, 3) := dk_159 0 5 (dk_at dksX2_betweenOf_2 6 rfl rfl)
theorem dX2_betweenOf_57 : decode cX2_betweenOf 57 = .ok (.iconst (-1), 1) := dk_2 (dk_at dksX2_betweenOf_2 9 rfl rfl)
theorem dX2_betweenOf_58 : decode cX2_betweenOf 58 = .ok (.ireturn, 1) := dk_172 (dk_at dksX2_betweenOf_2 10 rfl rfl)
theorem dX2_betweenOf_59 : decode cX2_betweenOf 59 = .ok (.aload_n 0, 1) := dk_42 (dk_at dksX2_betweenOf_2 11 rfl rfl)
theorem dX2_betweenOf_60 : decode cX2_betweenOf 60 = .ok (.invokevirtual 197, 3) := dk_182 0 197 (dk_at dksX2_betweenOf_2 12 rfl rfl)
theorem dX2_betweenOf_63 : decode cX2_betweenOf 63 = .ok (.ifCond .ne 8, 3) := dk_154 0 8 (dk_at dksX2_betweenOf_2 15 rfl rfl)
theorem dX2_betweenOf_66 : decode cX2_betweenOf 66 = .ok (.aload_n 0, 1) := dk_42 (dk_at dksX2_betweenOf_2 18 rfl rfl)
theorem dX2_betweenOf_67 : decode cX2_betweenOf 67 = .ok (.invokevirtual 200, 3) := dk_182 0 200 (dk_at dksX2_betweenOf_2 19 rfl rfl)
theorem dX2_betweenOf_70 : decode cX2_betweenOf 70 = .ok (.ireturn, 1) := dk_172 (dk_at dksX2_betweenOf_2 22 rfl rfl)
theorem dX2_betweenOf_71 : decode cX2_betweenOf 71 = .ok (.aload_n 0, 1) := dk_42 (dk_at dksX2_betweenOf_2 23 rfl rfl)
theorem dX2_betweenOf_72 : decode cX2_betweenOf 72 = .ok (.bipush 97, 2) := dk_16 97 (dk_at dksX2_betweenOf_3 0 rfl rfl)
theorem dX2_betweenOf_74 : decode cX2_betweenOf 74 = .ok (.bipush 110, 2) := dk_16 110 (dk_at dksX2_betweenOf_3 2 rfl rfl)
theorem dX2_betweenOf_76 : decode cX2_betweenOf 76 = .ok (.bipush 100, 2) := dk_16 100 (dk_at dksX2_betweenOf_3 4 rfl rfl)
theorem dX2_betweenOf_78 : decode cX2_betweenOf 78 = .ok (.invokestatic 119, 3) := dk_184 0 119 (dk_at dksX2_betweenOf_3 6 rfl rfl)
theorem dX2_betweenOf_81 : decode cX2_betweenOf 81 = .ok (.invokevirtual 183, 3) := dk_182 0 183 (dk_at dksX2_betweenOf_3 9 rfl rfl)
theorem dX2_betweenOf_84 : decode cX2_betweenOf 84 = .ok (.ifCond .eq 8, 3) := dk_153 0 8 (dk_at dksX2_betweenOf_3 12 rfl rfl)
theorem dX2_betweenOf_87 : decode cX2_betweenOf 87 = .ok (.bipush 21, 2) := dk_16 21 (dk_at dksX2_betweenOf_3 15 rfl rfl)
theorem dX2_betweenOf_89 : decode cX2_betweenOf 89 = .ok (.goto 23, 3) := dk_167 0 23 (dk_at dksX2_betweenOf_3 17 rfl rfl)
theorem dX2_betweenOf_92 : decode cX2_betweenOf 92 = .ok (.aload_n 0, 1) := dk_42 (dk_at dksX2_betweenOf_3 20 rfl rfl)
theorem dX2_betweenOf_93 : decode cX2_betweenOf 93 = .ok (.bipush 111, 2) := dk_16 111 (dk_at dksX2_betweenOf_3 21 rfl rfl)
theorem dX2_betweenOf_95 : decode cX2_betweenOf 95 = .ok (.bipush 114, 2) := dk_16 114 (dk_at dksX2_betweenOf_4 0 rfl rfl)
theorem dX2_betweenOf_97 : decode cX2_betweenOf 97 = .ok (.invokestatic 115, 3) := dk_184 0 115 (dk_at dksX2_betweenOf_4 2 rfl rfl)
theorem dX2_betweenOf_100 : decode cX2_betweenOf 100 = .ok (.invokevirtual 183, 3) := dk_182 0 183 (dk_at dksX2_betweenOf_4 5 rfl rfl)
theorem dX2_betweenOf_103 : decode cX2_betweenOf 103 = .ok (.ifCond .eq 8, 3) := dk_153 0 8 (dk_at dksX2_betweenOf_4 8 rfl rfl)
theorem dX2_betweenOf_106 : decode cX2_betweenOf 106 = .ok (.bipush 22, 2) := dk_16 22 (dk_at dksX2_betweenOf_4 11 rfl rfl)
theorem dX2_betweenOf_108 : decode cX2_betweenOf 108 = .ok (.goto 4, 3) := dk_167 0 4 (dk_at dksX2_betweenOf_4 13 rfl rfl)
theorem dX2_betweenOf_111 : decode cX2_betweenOf 111 = .ok (.iconst (-1), 1) := dk_2 (dk_at dksX2_betweenOf_4 16 rfl rfl)
theorem dX2_betweenOf_112 : decode cX2_betweenOf 112 = .ok (.ireturn, 1) := dk_172 (dk_at dksX2_betweenOf_4 17 rfl rfl)
abbrev cX2_openNow : ByteArray := prog_19_method_32_code
def yX2_openNow : MethodName := ⟨RX2, "openNow", "()I"⟩
def dkwX2_openNow_0 : List UInt8 := [42, 182, 0, 157, 156, 0, 7, 2, 167, 0, 12, 42, 180, 0, 29, 42, 182, 0, 157, 46, 172]
abbrev dktX2_openNow_0 : List UInt8 := dkwX2_openNow_0 ++ []
theorem dksX2_openNow_0 : cX2_openNow.data.toList.drop 0 = dktX2_openNow_0 := by decide +kernel
theorem dX2_openNow_0 : decode cX2_openNow 0 = .ok (.aload_n 0, 1) := dk_42 (dk_at dksX2_openNow_0 0 rfl rfl)
theorem dX2_openNow_1 : decode cX2_openNow 1 = .ok (.invokevirtual 157, 3) := dk_182 0 157 (dk_at dksX2_openNow_0 1 rfl rfl)
theorem dX2_openNow_4 : decode cX2_openNow 4 = .ok (.ifCond .ge 7, 3) := dk_156 0 7 (dk_at dksX2_openNow_0 4 rfl rfl)
theorem dX2_openNow_7 : decode cX2_openNow 7 = .ok (.iconst (-1), 1) := dk_2 (dk_at dksX2_openNow_0 7 rfl rfl)
theorem dX2_openNow_8 : decode cX2_openNow 8 = .ok (.goto 12, 3) := dk_167 0 12 (dk_at dksX2_openNow_0 8 rfl rfl)
theorem dX2_openNow_11 : decode cX2_openNow 11 = .ok (.aload_n 0, 1) := dk_42 (dk_at dksX2_openNow_0 11 rfl rfl)
theorem dX2_openNow_12 : decode cX2_openNow 12 = .ok (.getfield 29, 3) := dk_180 0 29 (dk_at dksX2_openNow_0 12 rfl rfl)
theorem dX2_openNow_15 : decode cX2_openNow 15 = .ok (.aload_n 0, 1) := dk_42 (dk_at dksX2_openNow_0 15 rfl rfl)
theorem dX2_openNow_16 : decode cX2_openNow 16 = .ok (.invokevirtual 157, 3) := dk_182 0 157 (dk_at dksX2_openNow_0 16 rfl rfl)
theorem dX2_openNow_19 : decode cX2_openNow 19 = .ok (.iaload, 1) := dk_46 (dk_at dksX2_openNow_0 19 rfl rfl)
theorem dX2_openNow_20 : decode cX2_openNow 20 = .ok (.ireturn, 1) := dk_172 (dk_at dksX2_openNow_0 20 rfl rfl)
abbrev cX2_openAt : ByteArray := prog_19_method_31_code
def yX2_openAt : MethodName := ⟨RX2, "openAt", "()I"⟩
def dkwX2_openAt_1 : List UInt8 := [132, 1, 255, 167, 255, 238, 27, 172]
abbrev dktX2_openAt_1 : List UInt8 := dkwX2_openAt_1 ++ []
def dkwX2_openAt_0 : List UInt8 := [42, 180, 0, 144, 4, 100, 60, 27, 155, 0, 20, 42, 180, 0, 29, 27, 46, 16, 40, 162, 0, 9]
abbrev dktX2_openAt_0 : List UInt8 := dkwX2_openAt_0 ++ dktX2_openAt_1
theorem dksX2_openAt_0 : cX2_openAt.data.toList.drop 0 = dktX2_openAt_0 := by decide +kernel
theorem dksX2_openAt_1 : cX2_openAt.data.toList.drop 22 = dktX2_openAt_1 := dk_seg dksX2_openAt_0 22 rfl rfl
theorem dX2_openAt_0 : decode cX2_openAt 0 = .ok (.aload_n 0, 1) := dk_42 (dk_at dksX2_openAt_0 0 rfl rfl)
theorem dX2_openAt_1 : decode cX2_openAt 1 = .ok (.getfield 144, 3) := dk_180 0 144 (dk_at dksX2_openAt_0 1 rfl rfl)
theorem dX2_openAt_4 : decode cX2_openAt 4 = .ok (.iconst 1, 1) := dk_4 (dk_at dksX2_openAt_0 4 rfl rfl)
theorem dX2_openAt_5 : decode cX2_openAt 5 = .ok (.isub, 1) := dk_100 (dk_at dksX2_openAt_0 5 rfl rfl)
theorem dX2_openAt_6 : decode cX2_openAt 6 = .ok (.istore_n 1, 1) := dk_60 (dk_at dksX2_openAt_0 6 rfl rfl)
theorem dX2_openAt_7 : decode cX2_openAt 7 = .ok (.iload_n 1, 1) := dk_27 (dk_at dksX2_openAt_0 7 rfl rfl)
theorem dX2_openAt_8 : decode cX2_openAt 8 = .ok (.ifCond .lt 20, 3) := dk_155 0 20 (dk_at dksX2_openAt_0 8 rfl rfl)
theorem dX2_openAt_11 : decode cX2_openAt 11 = .ok (.aload_n 0, 1) := dk_42 (dk_at dksX2_openAt_0 11 rfl rfl)
theorem dX2_openAt_12 : decode cX2_openAt 12 = .ok (.getfield 29, 3) := dk_180 0 29 (dk_at dksX2_openAt_0 12 rfl rfl)
theorem dX2_openAt_15 : decode cX2_openAt 15 = .ok (.iload_n 1, 1) := dk_27 (dk_at dksX2_openAt_0 15 rfl rfl)
theorem dX2_openAt_16 : decode cX2_openAt 16 = .ok (.iaload, 1) := dk_46 (dk_at dksX2_openAt_0 16 rfl rfl)
theorem dX2_openAt_17 : decode cX2_openAt 17 = .ok (.bipush 40, 2) := dk_16 40 (dk_at dksX2_openAt_0 17 rfl rfl)
theorem dX2_openAt_19 : decode cX2_openAt 19 = .ok (.if_icmp .ge 9, 3) := dk_162 0 9 (dk_at dksX2_openAt_0 19 rfl rfl)
theorem dX2_openAt_22 : decode cX2_openAt 22 = .ok (.iinc 1 (-1), 3) := dk_132 1 255 (dk_at dksX2_openAt_1 0 rfl rfl)
theorem dX2_openAt_25 : decode cX2_openAt 25 = .ok (.goto (-18), 3) := dk_167 255 238 (dk_at dksX2_openAt_1 3 rfl rfl)
theorem dX2_openAt_28 : decode cX2_openAt 28 = .ok (.iload_n 1, 1) := dk_27 (dk_at dksX2_openAt_1 6 rfl rfl)
theorem dX2_openAt_29 : decode cX2_openAt 29 = .ok (.ireturn, 1) := dk_172 (dk_at dksX2_openAt_1 7 rfl rfl)
abbrev cX2_isCompared : ByteArray := prog_19_method_33_code
def yX2_isCompared : MethodName := ⟨RX2, "isCompared", "()Z"⟩
def dkwX2_isCompared_2 : List UInt8 := [167, 0, 4, 3, 172]
abbrev dktX2_isCompared_2 : List UInt8 := dkwX2_isCompared_2 ++ []
def dkwX2_isCompared_1 : List UInt8 := [132, 1, 255, 167, 255, 236, 27, 155, 0, 20, 42, 180, 0, 29, 27, 46, 184, 0, 147, 7, 160, 0, 7, 4]
abbrev dktX2_isCompared_1 : List UInt8 := dkwX2_isCompared_1 ++ dktX2_isCompared_2
def dkwX2_isCompared_0 : List UInt8 := [42, 180, 0, 144, 4, 100, 60, 27, 155, 0, 22, 42, 180, 0, 29, 27, 46, 184, 0, 147, 7, 164, 0, 9]
abbrev dktX2_isCompared_0 : List UInt8 := dkwX2_isCompared_0 ++ dktX2_isCompared_1
theorem dksX2_isCompared_0 : cX2_isCompared.data.toList.drop 0 = dktX2_isCompared_0 := by decide +kernel
theorem dksX2_isCompared_1 : cX2_isCompared.data.toList.drop 24 = dktX2_isCompared_1 := dk_seg dksX2_isCompared_0 24 rfl rfl
theorem dksX2_isCompared_2 : cX2_isCompared.data.toList.drop 48 = dktX2_isCompared_2 := dk_seg dksX2_isCompared_1 24 rfl rfl
theorem dX2_isCompared_0 : decode cX2_isCompared 0 = .ok (.aload_n 0, 1) := dk_42 (dk_at dksX2_isCompared_0 0 rfl rfl)
theorem dX2_isCompared_1 : decode cX2_isCompared 1 = .ok (.getfield 144, 3) := dk_180 0 144 (dk_at dksX2_isCompared_0 1 rfl rfl)
theorem dX2_isCompared_4 : decode cX2_isCompared 4 = .ok (.iconst 1, 1) := dk_4 (dk_at dksX2_isCompared_0 4 rfl rfl)
theorem dX2_isCompared_5 : decode cX2_isCompared 5 = .ok (.isub, 1) := dk_100 (dk_at dksX2_isCompared_0 5 rfl rfl)
theorem dX2_isCompared_6 : decode cX2_isCompared 6 = .ok (.istore_n 1, 1) := dk_60 (dk_at dksX2_isCompared_0 6 rfl rfl)
theorem dX2_isCompared_7 : decode cX2_isCompared 7 = .ok (.iload_n 1, 1) := dk_27 (dk_at dksX2_isCompared_0 7 rfl rfl)
theorem dX2_isCompared_8 : decode cX2_isCompared 8 = .ok (.ifCond .lt 22, 3) := dk_155 0 22 (dk_at dksX2_isCompared_0 8 rfl rfl)
theorem dX2_isCompared_11 : decode cX2_isCompared 11 = .ok (.aload_n 0, 1) := dk_42 (dk_at dksX2_isCompared_0 11 rfl rfl)
theorem dX2_isCompared_12 : decode cX2_isCompared 12 = .ok (.getfield 29, 3) := dk_180 0 29 (dk_at dksX2_isCompared_0 12 rfl rfl)
theorem dX2_isCompared_15 : decode cX2_isCompared 15 = .ok (.iload_n 1, 1) := dk_27 (dk_at dksX2_isCompared_0 15 rfl rfl)
theorem dX2_isCompared_16 : decode cX2_isCompared 16 = .ok (.iaload, 1) := dk_46 (dk_at dksX2_isCompared_0 16 rfl rfl)
theorem dX2_isCompared_17 : decode cX2_isCompared 17 = .ok (.invokestatic 147, 3) := dk_184 0 147 (dk_at dksX2_isCompared_0 17 rfl rfl)
theorem dX2_isCompared_20 : decode cX2_isCompared 20 = .ok (.iconst 4, 1) := dk_7 (dk_at dksX2_isCompared_0 20 rfl rfl)
theorem dX2_isCompared_21 : decode cX2_isCompared 21 = .ok (.if_icmp .le 9, 3) := dk_164 0 9 (dk_at dksX2_isCompared_0 21 rfl rfl)
theorem dX2_isCompared_24 : decode cX2_isCompared 24 = .ok (.iinc 1 (-1), 3) := dk_132 1 255 (dk_at dksX2_isCompared_1 0 rfl rfl)
theorem dX2_isCompared_27 : decode cX2_isCompared 27 = .ok (.goto (-20), 3) := dk_167 255 236 (dk_at dksX2_isCompared_1 3 rfl rfl)
theorem dX2_isCompared_30 : decode cX2_isCompared 30 = .ok (.iload_n 1, 1) := dk_27 (dk_at dksX2_isCompared_1 6 rfl rfl)
theorem dX2_isCompared_31 : decode cX2_isCompared 31 = .ok (.ifCond .lt 20, 3) := dk_155 0 20 (dk_at dksX2_isCompared_1 7 rfl rfl)
theorem dX2_isCompared_34 : decode cX2_isCompared 34 = .ok (.aload_n 0, 1) := dk_42 (dk_at dksX2_isCompared_1 10 rfl rfl)
theorem dX2_isCompared_35 : decode cX2_isCompared 35 = .ok (.getfield 29, 3) := dk_180 0 29 (dk_at dksX2_isCompared_1 11 rfl rfl)
theorem dX2_isCompared_38 : decode cX2_isCompared 38 = .ok (.iload_n 1, 1) := dk_27 (dk_at dksX2_isCompared_1 14 rfl rfl)
theorem dX2_isCompared_39 : decode cX2_isCompared 39 = .ok (.iaload, 1) := dk_46 (dk_at dksX2_isCompared_1 15 rfl rfl)
theorem dX2_isCompared_40 : decode cX2_isCompared 40 = .ok (.invokestatic 147, 3) := dk_184 0 147 (dk_at dksX2_isCompared_1 16 rfl rfl)
theorem dX2_isCompared_43 : decode cX2_isCompared 43 = .ok (.iconst 4, 1) := dk_7 (dk_at dksX2_isCompared_1 19 rfl rfl)
theorem dX2_isCompared_44 : decode cX2_isCompared 44 = .ok (.if_icmp .ne 7, 3) := dk_160 0 7 (dk_at dksX2_isCompared_1 20 rfl rfl)
theorem dX2_isCompared_47 : decode cX2_isCompared 47 = .ok (.iconst 1, 1) := dk_4 (dk_at dksX2_isCompared_1 23 rfl rfl)
theorem dX2_isCompared_48 : decode cX2_isCompared 48 = .ok (.goto 4, 3) := dk_167 0 4 (dk_at dksX2_isCompared_2 0 rfl rfl)
theorem dX2_isCompared_51 : decode cX2_isCompared 51 = .ok (.iconst 0, 1) := dk_3 (dk_at dksX2_isCompared_2 3 rfl rfl)
theorem dX2_isCompared_52 : decode cX2_isCompared 52 = .ok (.ireturn, 1) := dk_172 (dk_at dksX2_isCompared_2 4 rfl rfl)
abbrev cX2_rank : ByteArray := prog_19_method_29_code
def yX2_rank : MethodName := ⟨RX2, "rank", "(I)I"⟩
def dkwX2_rank_3 : List UInt8 := [16, 6, 167, 0, 4, 8, 172]
abbrev dktX2_rank_3 : List UInt8 := dkwX2_rank_3 ++ []
def dkwX2_rank_2 : List UInt8 := [167, 0, 30, 26, 7, 159, 0, 8, 26, 8, 160, 0, 8, 16, 7, 167, 0, 15, 26, 16, 8, 161, 0, 8]
abbrev dktX2_rank_2 : List UInt8 := dkwX2_rank_2 ++ dktX2_rank_3
def dkwX2_rank_1 : List UInt8 := [160, 0, 7, 5, 167, 0, 50, 26, 16, 20, 160, 0, 7, 6, 167, 0, 40, 26, 16, 10, 161, 0, 7, 7]
abbrev dktX2_rank_1 : List UInt8 := dkwX2_rank_1 ++ dktX2_rank_2
def dkwX2_rank_0 : List UInt8 := [26, 16, 40, 161, 0, 7, 3, 167, 0, 70, 26, 16, 22, 160, 0, 7, 4, 167, 0, 60, 26, 16, 21]
abbrev dktX2_rank_0 : List UInt8 := dkwX2_rank_0 ++ dktX2_rank_1
theorem dksX2_rank_0 : cX2_rank.data.toList.drop 0 = dktX2_rank_0 := by decide +kernel
theorem dksX2_rank_1 : cX2_rank.data.toList.drop 23 = dktX2_rank_1 := dk_seg dksX2_rank_0 23 rfl rfl
theorem dksX2_rank_2 : cX2_rank.data.toList.drop 47 = dktX2_rank_2 := dk_seg dksX2_rank_1 24 rfl rfl
theorem dksX2_rank_3 : cX2_rank.data.toList.drop 71 = dktX2_rank_3 := dk_seg dksX2_rank_2 24 rfl rfl
theorem dX2_rank_0 : decode cX2_rank 0 = .ok (.iload_n 0, 1) := dk_26 (dk_at dksX2_rank_0 0 rfl rfl)
theorem dX2_rank_1 : decode cX2_rank 1 = .ok (.bipush 40, 2) := dk_16 40 (dk_at dksX2_rank_0 1 rfl rfl)
theorem dX2_rank_3 : decode cX2_rank 3 = .ok (.if_icmp .lt 7, 3) := dk_161 0 7 (dk_at dksX2_rank_0 3 rfl rfl)
theorem dX2_rank_6 : decode cX2_rank 6 = .ok (.iconst 0, 1) := dk_3 (dk_at dksX2_rank_0 6 rfl rfl)
theorem dX2_rank_7 : decode cX2_rank 7 = .ok (.goto 70, 3) := dk_167 0 70 (dk_at dksX2_rank_0 7 rfl rfl)
theorem dX2_rank_10 : decode cX2_rank 10 = .ok (.iload_n 0, 1) := dk_26 (dk_at dksX2_rank_0 10 rfl rfl)
theorem dX2_rank_11 : decode cX2_rank 11 = .ok (.bipush 22, 2) := dk_16 22 (dk_at dksX2_rank_0 11 rfl rfl)
theorem dX2_rank_13 : decode cX2_rank 13 = .ok (.if_icmp .ne 7, 3) := dk_160 0 7 (dk_at dksX2_rank_0 13 rfl rfl)
theorem dX2_rank_16 : decode cX2_rank 16 = .ok (.iconst 1, 1) := dk_4 (dk_at dksX2_rank_0 16 rfl rfl)
theorem dX2_rank_17 : decode cX2_rank 17 = .ok (.goto 60, 3) := dk_167 0 60 (dk_at dksX2_rank_0 17 rfl rfl)
theorem dX2_rank_20 : decode cX2_rank 20 = .ok (.iload_n 0, 1) := dk_26 (dk_at dksX2_rank_0 20 rfl rfl)
theorem dX2_rank_21 : decode cX2_rank 21 = .ok (.bipush 21, 2) := dk_16 21 (dk_at dksX2_rank_0 21 rfl rfl)
theorem dX2_rank_23 : decode cX2_rank 23 = .ok (.if_icmp .ne 7, 3) := dk_160 0 7 (dk_at dksX2_rank_1 0 rfl rfl)
theorem dX2_rank_26 : decode cX2_rank 26 = .ok (.iconst 2, 1) := dk_5 (dk_at dksX2_rank_1 3 rfl rfl)
theorem dX2_rank_27 : decode cX2_rank 27 = .ok (.goto 50, 3) := dk_167 0 50 (dk_at dksX2_rank_1 4 rfl rfl)
theorem dX2_rank_30 : decode cX2_rank 30 = .ok (.iload_n 0, 1) := dk_26 (dk_at dksX2_rank_1 7 rfl rfl)
theorem dX2_rank_31 : decode cX2_rank 31 = .ok (.bipush 20, 2) := dk_16 20 (dk_at dksX2_rank_1 8 rfl rfl)
theorem dX2_rank_33 : decode cX2_rank 33 = .ok (.if_icmp .ne 7, 3) := dk_160 0 7 (dk_at dksX2_rank_1 10 rfl rfl)
theorem dX2_rank_36 : decode cX2_rank 36 = .ok (.iconst 3, 1) := dk_6 (dk_at dksX2_rank_1 13 rfl rfl)
theorem dX2_rank_37 : decode cX2_rank 37 = .ok (.goto 40, 3) := dk_167 0 40 (dk_at dksX2_rank_1 14 rfl rfl)
theorem dX2_rank_40 : decode cX2_rank 40 = .ok (.iload_n 0, 1) := dk_26 (dk_at dksX2_rank_1 17 rfl rfl)
theorem dX2_rank_41 : decode cX2_rank 41 = .ok (.bipush 10, 2) := dk_16 10 (dk_at dksX2_rank_1 18 rfl rfl)
theorem dX2_rank_43 : decode cX2_rank 43 = .ok (.if_icmp .lt 7, 3) := dk_161 0 7 (dk_at dksX2_rank_1 20 rfl rfl)
theorem dX2_rank_46 : decode cX2_rank 46 = .ok (.iconst 4, 1) := dk_7 (dk_at dksX2_rank_1 23 rfl rfl)
theorem dX2_rank_47 : decode cX2_rank 47 = .ok (.goto 30, 3) := dk_167 0 30 (dk_at dksX2_rank_2 0 rfl rfl)
theorem dX2_rank_50 : decode cX2_rank 50 = .ok (.iload_n 0, 1) := dk_26 (dk_at dksX2_rank_2 3 rfl rfl)
theorem dX2_rank_51 : decode cX2_rank 51 = .ok (.iconst 4, 1) := dk_7 (dk_at dksX2_rank_2 4 rfl rfl)
theorem dX2_rank_52 : decode cX2_rank 52 = .ok (.if_icmp .eq 8, 3) := dk_159 0 8 (dk_at dksX2_rank_2 5 rfl rfl)
theorem dX2_rank_55 : decode cX2_rank 55 = .ok (.iload_n 0, 1) := dk_26 (dk_at dksX2_rank_2 8 rfl rfl)
theorem dX2_rank_56 : decode cX2_rank 56 = .ok (.iconst 5, 1) := dk_8 (dk_at dksX2_rank_2 9 rfl rfl)
theorem dX2_rank_57 : decode cX2_rank 57 = .ok (.if_icmp .ne 8, 3) := dk_160 0 8 (dk_at dksX2_rank_2 10 rfl rfl)
theorem dX2_rank_60 : decode cX2_rank 60 = .ok (.bipush 7, 2) := dk_16 7 (dk_at dksX2_rank_2 13 rfl rfl)
theorem dX2_rank_62 : decode cX2_rank 62 = .ok (.goto 15, 3) := dk_167 0 15 (dk_at dksX2_rank_2 15 rfl rfl)
theorem dX2_rank_65 : decode cX2_rank 65 = .ok (.iload_n 0, 1) := dk_26 (dk_at dksX2_rank_2 18 rfl rfl)
theorem dX2_rank_66 : decode cX2_rank 66 = .ok (.bipush 8, 2) := dk_16 8 (dk_at dksX2_rank_2 19 rfl rfl)
theorem dX2_rank_68 : decode cX2_rank 68 = .ok (.if_icmp .lt 8, 3) := dk_161 0 8 (dk_at dksX2_rank_2 21 rfl rfl)
theorem dX2_rank_71 : decode cX2_rank 71 = .ok (.bipush 6, 2) := dk_16 6 (dk_at dksX2_rank_3 0 rfl rfl)
theorem dX2_rank_73 : decode cX2_rank 73 = .ok (.goto 4, 3) := dk_167 0 4 (dk_at dksX2_rank_3 2 rfl rfl)
theorem dX2_rank_76 : decode cX2_rank 76 = .ok (.iconst 5, 1) := dk_8 (dk_at dksX2_rank_3 5 rfl rfl)
theorem dX2_rank_77 : decode cX2_rank 77 = .ok (.ireturn, 1) := dk_172 (dk_at dksX2_rank_3 6 rfl rfl)
abbrev cX2_compareOf : ByteArray := prog_19_method_39_code
def yX2_compareOf : MethodName := ⟨RX2, "compareOf", "()I"⟩
def dkwX2_compareOf_3 : List UInt8 := [180, 0, 92, 16, 35, 160, 0, 8, 16, 15, 167, 0, 4, 2, 172]
abbrev dktX2_compareOf_3 : List UInt8 := dkwX2_compareOf_3 ++ []
def dkwX2_compareOf_2 : List UInt8 := [160, 0, 8, 16, 13, 167, 0, 32, 42, 180, 0, 92, 16, 61, 160, 0, 8, 16, 14, 167, 0, 18, 42]
abbrev dktX2_compareOf_2 : List UInt8 := dkwX2_compareOf_2 ++ dktX2_compareOf_3
def dkwX2_compareOf_1 : List UInt8 := [167, 0, 59, 42, 180, 0, 92, 16, 62, 160, 0, 8, 16, 12, 167, 0, 45, 42, 180, 0, 92, 8]
abbrev dktX2_compareOf_1 : List UInt8 := dkwX2_compareOf_1 ++ dktX2_compareOf_2
def dkwX2_compareOf_0 : List UInt8 := [42, 180, 0, 92, 16, 60, 160, 0, 8, 16, 10, 167, 0, 72, 42, 180, 0, 92, 7, 160, 0, 8, 16, 11]
abbrev dktX2_compareOf_0 : List UInt8 := dkwX2_compareOf_0 ++ dktX2_compareOf_1
theorem dksX2_compareOf_0 : cX2_compareOf.data.toList.drop 0 = dktX2_compareOf_0 := by decide +kernel
theorem dksX2_compareOf_1 : cX2_compareOf.data.toList.drop 24 = dktX2_compareOf_1 := dk_seg dksX2_compareOf_0 24 rfl rfl
theorem dksX2_compareOf_2 : cX2_compareOf.data.toList.drop 46 = dktX2_compareOf_2 := dk_seg dksX2_compareOf_1 22 rfl rfl
theorem dksX2_compareOf_3 : cX2_compareOf.data.toList.drop 69 = dktX2_compareOf_3 := dk_seg dksX2_compareOf_2 23 rfl rfl
theorem dX2_compareOf_0 : decode cX2_compareOf 0 = .ok (.aload_n 0, 1) := dk_42 (dk_at dksX2_compareOf_0 0 rfl rfl)
theorem dX2_compareOf_1 : decode cX2_compareOf 1 = .ok (.getfield 92, 3) := dk_180 0 92 (dk_at dksX2_compareOf_0 1 rfl rfl)
theorem dX2_compareOf_4 : decode cX2_compareOf 4 = .ok (.bipush 60, 2) := dk_16 60 (dk_at dksX2_compareOf_0 4 rfl rfl)
theorem dX2_compareOf_6 : decode cX2_compareOf 6 = .ok (.if_icmp .ne 8, 3) := dk_160 0 8 (dk_at dksX2_compareOf_0 6 rfl rfl)
theorem dX2_compareOf_9 : decode cX2_compareOf 9 = .ok (.bipush 10, 2) := dk_16 10 (dk_at dksX2_compareOf_0 9 rfl rfl)
theorem dX2_compareOf_11 : decode cX2_compareOf 11 = .ok (.goto 72, 3) := dk_167 0 72 (dk_at dksX2_compareOf_0 11 rfl rfl)
theorem dX2_compareOf_14 : decode cX2_compareOf 14 = .ok (.aload_n 0, 1) := dk_42 (dk_at dksX2_compareOf_0 14 rfl rfl)
theorem dX2_compareOf_15 : decode cX2_compareOf 15 = .ok (.getfield 92, 3) := dk_180 0 92 (dk_at dksX2_compareOf_0 15 rfl rfl)
theorem dX2_compareOf_18 : decode cX2_compareOf 18 = .ok (.iconst 4, 1) := dk_7 (dk_at dksX2_compareOf_0 18 rfl rfl)
theorem dX2_compareOf_19 : decode cX2_compareOf 19 = .ok (.if_icmp .ne 8, 3) := dk_160 0 8 (dk_at dksX2_compareOf_0 19 rfl rfl)
theorem dX2_compareOf_22 : decode cX2_compareOf 22 = .ok (.bipush 11, 2) := dk_16 11 (dk_at dksX2_compareOf_0 22 rfl rfl)
theorem dX2_compareOf_24 : decode cX2_compareOf 24 = .ok (.goto 59, 3) := dk_167 0 59 (dk_at dksX2_compareOf_1 0 rfl rfl)
theorem dX2_compareOf_27 : decode cX2_compareOf 27 = .ok (.aload_n 0, 1) := dk_42 (dk_at dksX2_compareOf_1 3 rfl rfl)
theorem dX2_compareOf_28 : decode cX2_compareOf 28 = .ok (.getfield 92, 3) := dk_180 0 92 (dk_at dksX2_compareOf_1 4 rfl rfl)
theorem dX2_compareOf_31 : decode cX2_compareOf 31 = .ok (.bipush 62, 2) := dk_16 62 (dk_at dksX2_compareOf_1 7 rfl rfl)
theorem dX2_compareOf_33 : decode cX2_compareOf 33 = .ok (.if_icmp .ne 8, 3) := dk_160 0 8 (dk_at dksX2_compareOf_1 9 rfl rfl)
theorem dX2_compareOf_36 : decode cX2_compareOf 36 = .ok (.bipush 12, 2) := dk_16 12 (dk_at dksX2_compareOf_1 12 rfl rfl)
theorem dX2_compareOf_38 : decode cX2_compareOf 38 = .ok (.goto 45, 3) := dk_167 0 45 (dk_at dksX2_compareOf_1 14 rfl rfl)
theorem dX2_compareOf_41 : decode cX2_compareOf 41 = .ok (.aload_n 0, 1) := dk_42 (dk_at dksX2_compareOf_1 17 rfl rfl)
theorem dX2_compareOf_42 : decode cX2_compareOf 42 = .ok (.getfield 92, 3) := dk_180 0 92 (dk_at dksX2_compareOf_1 18 rfl rfl)
theorem dX2_compareOf_45 : decode cX2_compareOf 45 = .ok (.iconst 5, 1) := dk_8 (dk_at dksX2_compareOf_1 21 rfl rfl)
theorem dX2_compareOf_46 : decode cX2_compareOf 46 = .ok (.if_icmp .ne 8, 3) := dk_160 0 8 (dk_at dksX2_compareOf_2 0 rfl rfl)
theorem dX2_compareOf_49 : decode cX2_compareOf 49 = .ok (.bipush 13, 2) := dk_16 13 (dk_at dksX2_compareOf_2 3 rfl rfl)
theorem dX2_compareOf_51 : decode cX2_compareOf 51 = .ok (.goto 32, 3) := dk_167 0 32 (dk_at dksX2_compareOf_2 5 rfl rfl)
theorem dX2_compareOf_54 : decode cX2_compareOf 54 = .ok (.aload_n 0, 1) := dk_42 (dk_at dksX2_compareOf_2 8 rfl rfl)
theorem dX2_compareOf_55 : decode cX2_compareOf 55 = .ok (.getfield 92, 3) := dk_180 0 92 (dk_at dksX2_compareOf_2 9 rfl rfl)
theorem dX2_compareOf_58 : decode cX2_compareOf 58 = .ok (.bipush 61, 2) := dk_16 61 (dk_at dksX2_compareOf_2 12 rfl rfl)
theorem dX2_compareOf_60 : decode cX2_compareOf 60 = .ok (.if_icmp .ne 8, 3) := dk_160 0 8 (dk_at dksX2_compareOf_2 14 rfl rfl)
theorem dX2_compareOf_63 : decode cX2_compareOf 63 = .ok (.bipush 14, 2) := dk_16 14 (dk_at dksX2_compareOf_2 17 rfl rfl)
theorem dX2_compareOf_65 : decode cX2_compareOf 65 = .ok (.goto 18, 3) := dk_167 0 18 (dk_at dksX2_compareOf_2 19 rfl rfl)
theorem dX2_compareOf_68 : decode cX2_compareOf 68 = .ok (.aload_n 0, 1) := dk_42 (dk_at dksX2_compareOf_2 22 rfl rfl)
theorem dX2_compareOf_69 : decode cX2_compareOf 69 = .ok (.getfield 92, 3) := dk_180 0 92 (dk_at dksX2_compareOf_3 0 rfl rfl)
theorem dX2_compareOf_72 : decode cX2_compareOf 72 = .ok (.bipush 35, 2) := dk_16 35 (dk_at dksX2_compareOf_3 3 rfl rfl)
theorem dX2_compareOf_74 : decode cX2_compareOf 74 = .ok (.if_icmp .ne 8, 3) := dk_160 0 8 (dk_at dksX2_compareOf_3 5 rfl rfl)
theorem dX2_compareOf_77 : decode cX2_compareOf 77 = .ok (.bipush 15, 2) := dk_16 15 (dk_at dksX2_compareOf_3 8 rfl rfl)
theorem dX2_compareOf_79 : decode cX2_compareOf 79 = .ok (.goto 4, 3) := dk_167 0 4 (dk_at dksX2_compareOf_3 10 rfl rfl)
theorem dX2_compareOf_82 : decode cX2_compareOf 82 = .ok (.iconst (-1), 1) := dk_2 (dk_at dksX2_compareOf_3 13 rfl rfl)
theorem dX2_compareOf_83 : decode cX2_compareOf 83 = .ok (.ireturn, 1) := dk_172 (dk_at dksX2_compareOf_3 14 rfl rfl)
abbrev cX2_settle : ByteArray := prog_19_method_30_code
def yX2_settle : MethodName := ⟨RX2, "settle", "(I)V"⟩
def dkwX2_settle_3 : List UInt8 := [42, 180, 0, 144, 46, 16, 20, 160, 255, 179, 42, 89, 180, 0, 154, 4, 100, 181, 0, 154, 167, 255, 166, 177]
abbrev dktX2_settle_3 : List UInt8 := dkwX2_settle_3 ++ []
def dkwX2_settle_2 : List UInt8 := [182, 0, 150, 42, 180, 0, 29, 42, 180, 0, 144, 46, 184, 0, 147, 16, 7, 159, 0, 17, 42, 180, 0, 29]
abbrev dktX2_settle_2 : List UInt8 := dkwX2_settle_2 ++ dktX2_settle_3
def dkwX2_settle_1 : List UInt8 := [161, 0, 71, 42, 89, 180, 0, 144, 4, 100, 181, 0, 144, 42, 42, 180, 0, 29, 42, 180, 0, 144, 46, 3]
abbrev dktX2_settle_1 : List UInt8 := dkwX2_settle_1 ++ dktX2_settle_2
def dkwX2_settle_0 : List UInt8 := [42, 180, 0, 144, 158, 0, 89, 42, 180, 0, 29, 42, 180, 0, 144, 4, 100, 46, 184, 0, 147, 27]
abbrev dktX2_settle_0 : List UInt8 := dkwX2_settle_0 ++ dktX2_settle_1
theorem dksX2_settle_0 : cX2_settle.data.toList.drop 0 = dktX2_settle_0 := by decide +kernel
theorem dksX2_settle_1 : cX2_settle.data.toList.drop 22 = dktX2_settle_1 := dk_seg dksX2_settle_0 22 rfl rfl
theorem dksX2_settle_2 : cX2_settle.data.toList.drop 46 = dktX2_settle_2 := dk_seg dksX2_settle_1 24 rfl rfl
theorem dksX2_settle_3 : cX2_settle.data.toList.drop 70 = dktX2_settle_3 := dk_seg dksX2_settle_2 24 rfl rfl
theorem dX2_settle_0 : decode cX2_settle 0 = .ok (.aload_n 0, 1) := dk_42 (dk_at dksX2_settle_0 0 rfl rfl)
theorem dX2_settle_1 : decode cX2_settle 1 = .ok (.getfield 144, 3) := dk_180 0 144 (dk_at dksX2_settle_0 1 rfl rfl)
theorem dX2_settle_4 : decode cX2_settle 4 = .ok (.ifCond .le 89, 3) := dk_158 0 89 (dk_at dksX2_settle_0 4 rfl rfl)
theorem dX2_settle_7 : decode cX2_settle 7 = .ok (.aload_n 0, 1) := dk_42 (dk_at dksX2_settle_0 7 rfl rfl)
theorem dX2_settle_8 : decode cX2_settle 8 = .ok (.getfield 29, 3) := dk_180 0 29 (dk_at dksX2_settle_0 8 rfl rfl)
theorem dX2_settle_11 : decode cX2_settle 11 = .ok (.aload_n 0, 1) := dk_42 (dk_at dksX2_settle_0 11 rfl rfl)
theorem dX2_settle_12 : decode cX2_settle 12 = .ok (.getfield 144, 3) := dk_180 0 144 (dk_at dksX2_settle_0 12 rfl rfl)
theorem dX2_settle_15 : decode cX2_settle 15 = .ok (.iconst 1, 1) := dk_4 (dk_at dksX2_settle_0 15 rfl rfl)
theorem dX2_settle_16 : decode cX2_settle 16 = .ok (.isub, 1) := dk_100 (dk_at dksX2_settle_0 16 rfl rfl)
theorem dX2_settle_17 : decode cX2_settle 17 = .ok (.iaload, 1) := dk_46 (dk_at dksX2_settle_0 17 rfl rfl)
theorem dX2_settle_18 : decode cX2_settle 18 = .ok (.invokestatic 147, 3) := dk_184 0 147 (dk_at dksX2_settle_0 18 rfl rfl)
theorem dX2_settle_21 : decode cX2_settle 21 = .ok (.iload_n 1, 1) := dk_27 (dk_at dksX2_settle_0 21 rfl rfl)
theorem dX2_settle_22 : decode cX2_settle 22 = .ok (.if_icmp .lt 71, 3) := dk_161 0 71 (dk_at dksX2_settle_1 0 rfl rfl)
theorem dX2_settle_25 : decode cX2_settle 25 = .ok (.aload_n 0, 1) := dk_42 (dk_at dksX2_settle_1 3 rfl rfl)
theorem dX2_settle_26 : decode cX2_settle 26 = .ok (.dup, 1) := dk_89 (dk_at dksX2_settle_1 4 rfl rfl)
theorem dX2_settle_27 : decode cX2_settle 27 = .ok (.getfield 144, 3) := dk_180 0 144 (dk_at dksX2_settle_1 5 rfl rfl)
theorem dX2_settle_30 : decode cX2_settle 30 = .ok (.iconst 1, 1) := dk_4 (dk_at dksX2_settle_1 8 rfl rfl)
theorem dX2_settle_31 : decode cX2_settle 31 = .ok (.isub, 1) := dk_100 (dk_at dksX2_settle_1 9 rfl rfl)
theorem dX2_settle_32 : decode cX2_settle 32 = .ok (.putfield 144, 3) := dk_181 0 144 (dk_at dksX2_settle_1 10 rfl rfl)
theorem dX2_settle_35 : decode cX2_settle 35 = .ok (.aload_n 0, 1) := dk_42 (dk_at dksX2_settle_1 13 rfl rfl)
theorem dX2_settle_36 : decode cX2_settle 36 = .ok (.aload_n 0, 1) := dk_42 (dk_at dksX2_settle_1 14 rfl rfl)
theorem dX2_settle_37 : decode cX2_settle 37 = .ok (.getfield 29, 3) := dk_180 0 29 (dk_at dksX2_settle_1 15 rfl rfl)
theorem dX2_settle_40 : decode cX2_settle 40 = .ok (.aload_n 0, 1) := dk_42 (dk_at dksX2_settle_1 18 rfl rfl)
theorem dX2_settle_41 : decode cX2_settle 41 = .ok (.getfield 144, 3) := dk_180 0 144 (dk_at dksX2_settle_1 19 rfl rfl)
theorem dX2_settle_44 : decode cX2_settle 44 = .ok (.iaload, 1) := dk_46 (dk_at dksX2_settle_1 22 rfl rfl)
theorem dX2_settle_45 : decode cX2_settle 45 = .ok (.iconst 0, 1) := dk_3 (dk_at dksX2_settle_1 23 rfl rfl)
theorem dX2_settle_46 : decode cX2_settle 46 = .ok (.invokevirtual 150, 3) := dk_182 0 150 (dk_at dksX2_settle_2 0 rfl rfl)
theorem dX2_settle_49 : decode cX2_settle 49 = .ok (.aload_n 0, 1) := dk_42 (dk_at dksX2_settle_2 3 rfl rfl)
theorem dX2_settle_50 : decode cX2_settle 50 = .ok (.getfield 29, 3) := dk_180 0 29 (dk_at dksX2_settle_2 4 rfl rfl)
theorem dX2_settle_53 : decode cX2_settle 53 = .ok (.aload_n 0, 1) := dk_42 (dk_at dksX2_settle_2 7 rfl rfl)
theorem dX2_settle_54 : decode cX2_settle 54 = .ok (.getfield 144, 3) := dk_180 0 144 (dk_at dksX2_settle_2 8 rfl rfl)
theorem dX2_settle_57 : decode cX2_settle 57 = .ok (.iaload, 1) := dk_46 (dk_at dksX2_settle_2 11 rfl rfl)
theorem dX2_settle_58 : decode cX2_settle 58 = .ok (.invokestatic 147, 3) := dk_184 0 147 (dk_at dksX2_settle_2 12 rfl rfl)
theorem dX2_settle_61 : decode cX2_settle 61 = .ok (.bipush 7, 2) := dk_16 7 (dk_at dksX2_settle_2 15 rfl rfl)
theorem dX2_settle_63 : decode cX2_settle 63 = .ok (.if_icmp .eq 17, 3) := dk_159 0 17 (dk_at dksX2_settle_2 17 rfl rfl)
theorem dX2_settle_66 : decode cX2_settle 66 = .ok (.aload_n 0, 1) := dk_42 (dk_at dksX2_settle_2 20 rfl rfl)
theorem dX2_settle_67 : decode cX2_settle 67 = .ok (.getfield 29, 3) := dk_180 0 29 (dk_at dksX2_settle_2 21 rfl rfl)
theorem dX2_settle_70 : decode cX2_settle 70 = .ok (.aload_n 0, 1) := dk_42 (dk_at dksX2_settle_3 0 rfl rfl)
theorem dX2_settle_71 : decode cX2_settle 71 = .ok (.getfield 144, 3) := dk_180 0 144 (dk_at dksX2_settle_3 1 rfl rfl)
theorem dX2_settle_74 : decode cX2_settle 74 = .ok (.iaload, 1) := dk_46 (dk_at dksX2_settle_3 4 rfl rfl)
theorem dX2_settle_75 : decode cX2_settle 75 = .ok (.bipush 20, 2) := dk_16 20 (dk_at dksX2_settle_3 5 rfl rfl)
theorem dX2_settle_77 : decode cX2_settle 77 = .ok (.if_icmp .ne (-77), 3) := dk_160 255 179 (dk_at dksX2_settle_3 7 rfl rfl)
theorem dX2_settle_80 : decode cX2_settle 80 = .ok (.aload_n 0, 1) := dk_42 (dk_at dksX2_settle_3 10 rfl rfl)
theorem dX2_settle_81 : decode cX2_settle 81 = .ok (.dup, 1) := dk_89 (dk_at dksX2_settle_3 11 rfl rfl)
theorem dX2_settle_82 : decode cX2_settle 82 = .ok (.getfield 154, 3) := dk_180 0 154 (dk_at dksX2_settle_3 12 rfl rfl)
theorem dX2_settle_85 : decode cX2_settle 85 = .ok (.iconst 1, 1) := dk_4 (dk_at dksX2_settle_3 15 rfl rfl)
theorem dX2_settle_86 : decode cX2_settle 86 = .ok (.isub, 1) := dk_100 (dk_at dksX2_settle_3 16 rfl rfl)
theorem dX2_settle_87 : decode cX2_settle 87 = .ok (.putfield 154, 3) := dk_181 0 154 (dk_at dksX2_settle_3 17 rfl rfl)
theorem dX2_settle_90 : decode cX2_settle 90 = .ok (.goto (-90), 3) := dk_167 255 166 (dk_at dksX2_settle_3 20 rfl rfl)
theorem dX2_settle_93 : decode cX2_settle 93 = .ok (.return_, 1) := dk_177 (dk_at dksX2_settle_3 23 rfl rfl)
abbrev cX2_emit : ByteArray := prog_19_method_26_code
def yX2_emit : MethodName := ⟨RX2, "emit", "(II)V"⟩
def dkwX2_emit_2 : List UInt8 := [180, 0, 134, 4, 96, 181, 0, 134, 177]
abbrev dktX2_emit_2 : List UInt8 := dkwX2_emit_2 ++ []
def dkwX2_emit_1 : List UInt8 := [180, 0, 16, 42, 180, 0, 131, 17, 0, 145, 96, 5, 42, 180, 0, 134, 104, 96, 4, 96, 28, 79, 42, 89]
abbrev dktX2_emit_1 : List UInt8 := dkwX2_emit_1 ++ dktX2_emit_2
def dkwX2_emit_0 : List UInt8 := [42, 180, 0, 16, 42, 180, 0, 131, 17, 0, 145, 96, 5, 42, 180, 0, 134, 104, 96, 27, 79, 42]
abbrev dktX2_emit_0 : List UInt8 := dkwX2_emit_0 ++ dktX2_emit_1
theorem dksX2_emit_0 : cX2_emit.data.toList.drop 0 = dktX2_emit_0 := by decide +kernel
theorem dksX2_emit_1 : cX2_emit.data.toList.drop 22 = dktX2_emit_1 := dk_seg dksX2_emit_0 22 rfl rfl
theorem dksX2_emit_2 : cX2_emit.data.toList.drop 46 = dktX2_emit_2 := dk_seg dksX2_emit_1 24 rfl rfl
theorem dX2_emit_0 : decode cX2_emit 0 = .ok (.aload_n 0, 1) := dk_42 (dk_at dksX2_emit_0 0 rfl rfl)
theorem dX2_emit_1 : decode cX2_emit 1 = .ok (.getfield 16, 3) := dk_180 0 16 (dk_at dksX2_emit_0 1 rfl rfl)
theorem dX2_emit_4 : decode cX2_emit 4 = .ok (.aload_n 0, 1) := dk_42 (dk_at dksX2_emit_0 4 rfl rfl)
theorem dX2_emit_5 : decode cX2_emit 5 = .ok (.getfield 131, 3) := dk_180 0 131 (dk_at dksX2_emit_0 5 rfl rfl)
theorem dX2_emit_8 : decode cX2_emit 8 = .ok (.sipush 145, 3) := dk_17 0 145 (dk_at dksX2_emit_0 8 rfl rfl)
theorem dX2_emit_11 : decode cX2_emit 11 = .ok (.iadd, 1) := dk_96 (dk_at dksX2_emit_0 11 rfl rfl)
theorem dX2_emit_12 : decode cX2_emit 12 = .ok (.iconst 2, 1) := dk_5 (dk_at dksX2_emit_0 12 rfl rfl)
theorem dX2_emit_13 : decode cX2_emit 13 = .ok (.aload_n 0, 1) := dk_42 (dk_at dksX2_emit_0 13 rfl rfl)
theorem dX2_emit_14 : decode cX2_emit 14 = .ok (.getfield 134, 3) := dk_180 0 134 (dk_at dksX2_emit_0 14 rfl rfl)
theorem dX2_emit_17 : decode cX2_emit 17 = .ok (.imul, 1) := dk_104 (dk_at dksX2_emit_0 17 rfl rfl)
theorem dX2_emit_18 : decode cX2_emit 18 = .ok (.iadd, 1) := dk_96 (dk_at dksX2_emit_0 18 rfl rfl)
theorem dX2_emit_19 : decode cX2_emit 19 = .ok (.iload_n 1, 1) := dk_27 (dk_at dksX2_emit_0 19 rfl rfl)
theorem dX2_emit_20 : decode cX2_emit 20 = .ok (.iastore, 1) := dk_79 (dk_at dksX2_emit_0 20 rfl rfl)
theorem dX2_emit_21 : decode cX2_emit 21 = .ok (.aload_n 0, 1) := dk_42 (dk_at dksX2_emit_0 21 rfl rfl)
theorem dX2_emit_22 : decode cX2_emit 22 = .ok (.getfield 16, 3) := dk_180 0 16 (dk_at dksX2_emit_1 0 rfl rfl)
theorem dX2_emit_25 : decode cX2_emit 25 = .ok (.aload_n 0, 1) := dk_42 (dk_at dksX2_emit_1 3 rfl rfl)
theorem dX2_emit_26 : decode cX2_emit 26 = .ok (.getfield 131, 3) := dk_180 0 131 (dk_at dksX2_emit_1 4 rfl rfl)
theorem dX2_emit_29 : decode cX2_emit 29 = .ok (.sipush 145, 3) := dk_17 0 145 (dk_at dksX2_emit_1 7 rfl rfl)
theorem dX2_emit_32 : decode cX2_emit 32 = .ok (.iadd, 1) := dk_96 (dk_at dksX2_emit_1 10 rfl rfl)
theorem dX2_emit_33 : decode cX2_emit 33 = .ok (.iconst 2, 1) := dk_5 (dk_at dksX2_emit_1 11 rfl rfl)
theorem dX2_emit_34 : decode cX2_emit 34 = .ok (.aload_n 0, 1) := dk_42 (dk_at dksX2_emit_1 12 rfl rfl)
theorem dX2_emit_35 : decode cX2_emit 35 = .ok (.getfield 134, 3) := dk_180 0 134 (dk_at dksX2_emit_1 13 rfl rfl)
theorem dX2_emit_38 : decode cX2_emit 38 = .ok (.imul, 1) := dk_104 (dk_at dksX2_emit_1 16 rfl rfl)
theorem dX2_emit_39 : decode cX2_emit 39 = .ok (.iadd, 1) := dk_96 (dk_at dksX2_emit_1 17 rfl rfl)
theorem dX2_emit_40 : decode cX2_emit 40 = .ok (.iconst 1, 1) := dk_4 (dk_at dksX2_emit_1 18 rfl rfl)
theorem dX2_emit_41 : decode cX2_emit 41 = .ok (.iadd, 1) := dk_96 (dk_at dksX2_emit_1 19 rfl rfl)
theorem dX2_emit_42 : decode cX2_emit 42 = .ok (.iload_n 2, 1) := dk_28 (dk_at dksX2_emit_1 20 rfl rfl)
theorem dX2_emit_43 : decode cX2_emit 43 = .ok (.iastore, 1) := dk_79 (dk_at dksX2_emit_1 21 rfl rfl)
theorem dX2_emit_44 : decode cX2_emit 44 = .ok (.aload_n 0, 1) := dk_42 (dk_at dksX2_emit_1 22 rfl rfl)
theorem dX2_emit_45 : decode cX2_emit 45 = .ok (.dup, 1) := dk_89 (dk_at dksX2_emit_1 23 rfl rfl)
theorem dX2_emit_46 : decode cX2_emit 46 = .ok (.getfield 134, 3) := dk_180 0 134 (dk_at dksX2_emit_2 0 rfl rfl)
theorem dX2_emit_49 : decode cX2_emit 49 = .ok (.iconst 1, 1) := dk_4 (dk_at dksX2_emit_2 3 rfl rfl)
theorem dX2_emit_50 : decode cX2_emit 50 = .ok (.iadd, 1) := dk_96 (dk_at dksX2_emit_2 4 rfl rfl)
theorem dX2_emit_51 : decode cX2_emit 51 = .ok (.putfield 134, 3) := dk_181 0 134 (dk_at dksX2_emit_2 5 rfl rfl)
theorem dX2_emit_54 : decode cX2_emit 54 = .ok (.return_, 1) := dk_177 (dk_at dksX2_emit_2 8 rfl rfl)
abbrev cX2_partOf : ByteArray := prog_19_method_41_code
def yX2_partOf : MethodName := ⟨RX2, "partOf", "(I)I"⟩
def dkwX2_partOf_5 : List UInt8 := [42, 16, 101, 16, 110, 16, 100, 184, 0, 119, 182, 0, 183, 153, 0, 7, 3, 167, 0, 4, 2, 172, 2, 172]
abbrev dktX2_partOf_5 : List UInt8 := dkwX2_partOf_5 ++ []
def dkwX2_partOf_4 : List UInt8 := [16, 101, 16, 108, 16, 115, 16, 101, 184, 0, 123, 182, 0, 183, 153, 0, 8, 16, 43, 167, 0, 4, 2, 172]
abbrev dktX2_partOf_4 : List UInt8 := dkwX2_partOf_4 ++ dktX2_partOf_5
def dkwX2_partOf_3 : List UInt8 := [184, 0, 123, 182, 0, 183, 153, 0, 15, 42, 182, 0, 197, 153, 0, 8, 16, 42, 167, 0, 4, 2, 172, 42]
abbrev dktX2_partOf_3 : List UInt8 := dkwX2_partOf_3 ++ dktX2_partOf_4
def dkwX2_partOf_2 : List UInt8 := [42, 180, 0, 92, 16, 41, 160, 0, 7, 3, 167, 0, 4, 2, 172, 42, 16, 116, 16, 104, 16, 101, 16, 110]
abbrev dktX2_partOf_2 : List UInt8 := dkwX2_partOf_2 ++ dktX2_partOf_3
def dkwX2_partOf_1 : List UInt8 := [170, 0, 0, 0, 0, 0, 125, 0, 0, 0, 40, 0, 0, 0, 43, 0, 0, 0, 31, 0, 0, 0, 46, 0, 0, 0, 78, 0, 0, 0, 103]
abbrev dktX2_partOf_1 : List UInt8 := dkwX2_partOf_1 ++ dktX2_partOf_2
def dkwX2_partOf_0 : List UInt8 := [27]
abbrev dktX2_partOf_0 : List UInt8 := dkwX2_partOf_0 ++ dktX2_partOf_1
theorem dksX2_partOf_0 : cX2_partOf.data.toList.drop 0 = dktX2_partOf_0 := by decide +kernel
theorem dksX2_partOf_1 : cX2_partOf.data.toList.drop 1 = dktX2_partOf_1 := dk_seg dksX2_partOf_0 1 rfl rfl
theorem dksX2_partOf_2 : cX2_partOf.data.toList.drop 32 = dktX2_partOf_2 := dk_seg dksX2_partOf_1 31 rfl rfl
theorem dksX2_partOf_3 : cX2_partOf.data.toList.drop 56 = dktX2_partOf_3 := dk_seg dksX2_partOf_2 24 rfl rfl
theorem dksX2_partOf_4 : cX2_partOf.data.toList.drop 80 = dktX2_partOf_4 := dk_seg dksX2_partOf_3 24 rfl rfl
theorem dksX2_partOf_5 : cX2_partOf.data.toList.drop 104 = dktX2_partOf_5 := dk_seg dksX2_partOf_4 24 rfl rfl
theorem dX2_partOf_0 : decode cX2_partOf 0 = .ok (.iload_n 1, 1) := dk_27 (dk_at dksX2_partOf_0 0 rfl rfl)
theorem dX2_partOf_1 : decode cX2_partOf 1 = .ok (.tableswitch 125 40 43 #[31, 46, 78, 103], 31) := by decide +kernel
theorem dX2_partOf_32 : decode cX2_partOf 32 = .ok (.aload_n 0, 1) := dk_42 (dk_at dksX2_partOf_2 0 rfl rfl)
theorem dX2_partOf_33 : decode cX2_partOf 33 = .ok (.getfield 92, 3) := dk_180 0 92 (dk_at dksX2_partOf_2 1 rfl rfl)
theorem dX2_partOf_36 : decode cX2_partOf 36 = .ok (.bipush 41, 2) := dk_16 41 (dk_at dksX2_partOf_2 4 rfl rfl)
theorem dX2_partOf_38 : decode cX2_partOf 38 = .ok (.if_icmp .ne 7, 3) := dk_160 0 7 (dk_at dksX2_partOf_2 6 rfl rfl)
theorem dX2_partOf_41 : decode cX2_partOf 41 = .ok (.iconst 0, 1) := dk_3 (dk_at dksX2_partOf_2 9 rfl rfl)
theorem dX2_partOf_42 : decode cX2_partOf 42 = .ok (.goto 4, 3) := dk_167 0 4 (dk_at dksX2_partOf_2 10 rfl rfl)
theorem dX2_partOf_45 : decode cX2_partOf 45 = .ok (.iconst (-1), 1) := dk_2 (dk_at dksX2_partOf_2 13 rfl rfl)
theorem dX2_partOf_46 : decode cX2_partOf 46 = .ok (.ireturn, 1) := dk_172 (dk_at dksX2_partOf_2 14 rfl rfl)
theorem dX2_partOf_47 : decode cX2_partOf 47 = .ok (.aload_n 0, 1) := dk_42 (dk_at dksX2_partOf_2 15 rfl rfl)
theorem dX2_partOf_48 : decode cX2_partOf 48 = .ok (.bipush 116, 2) := dk_16 116 (dk_at dksX2_partOf_2 16 rfl rfl)
theorem dX2_partOf_50 : decode cX2_partOf 50 = .ok (.bipush 104, 2) := dk_16 104 (dk_at dksX2_partOf_2 18 rfl rfl)
theorem dX2_partOf_52 : decode cX2_partOf 52 = .ok (.bipush 101, 2) := dk_16 101 (dk_at dksX2_partOf_2 20 rfl rfl)
theorem dX2_partOf_54 : decode cX2_partOf 54 = .ok (.bipush 110, 2) := dk_16 110 (dk_at dksX2_partOf_2 22 rfl rfl)
theorem dX2_partOf_56 : decode cX2_partOf 56 = .ok (.invokestatic 123, 3) := dk_184 0 123 (dk_at dksX2_partOf_3 0 rfl rfl)
theorem dX2_partOf_59 : decode cX2_partOf 59 = .ok (.invokevirtual 183, 3) := dk_182 0 183 (dk_at dksX2_partOf_3 3 rfl rfl)
theorem dX2_partOf_62 : decode cX2_partOf 62 = .ok (.ifCond .eq 15, 3) := dk_153 0 15 (dk_at dksX2_partOf_3 6 rfl rfl)
theorem dX2_partOf_65 : decode cX2_partOf 65 = .ok (.aload_n 0, 1) := dk_42 (dk_at dksX2_partOf_3 9 rfl rfl)
theorem dX2_partOf_66 : decode cX2_partOf 66 = .ok (.invokevirtual 197, 3) := dk_182 0 197 (dk_at dksX2_partOf_3 10 rfl rfl)
theorem dX2_partOf_69 : decode cX2_partOf 69 = .ok (.ifCond .eq 8, 3) := dk_153 0 8 (dk_at dksX2_partOf_3 13 rfl rfl)
theorem dX2_partOf_72 : decode cX2_partOf 72 = .ok (.bipush 42, 2) := dk_16 42 (dk_at dksX2_partOf_3 16 rfl rfl)
theorem dX2_partOf_74 : decode cX2_partOf 74 = .ok (.goto 4, 3) := dk_167 0 4 (dk_at dksX2_partOf_3 18 rfl rfl)
theorem dX2_partOf_77 : decode cX2_partOf 77 = .ok (.iconst (-1), 1) := dk_2 (dk_at dksX2_partOf_3 21 rfl rfl)
theorem dX2_partOf_78 : decode cX2_partOf 78 = .ok (.ireturn, 1) := dk_172 (dk_at dksX2_partOf_3 22 rfl rfl)
theorem dX2_partOf_79 : decode cX2_partOf 79 = .ok (.aload_n 0, 1) := dk_42 (dk_at dksX2_partOf_3 23 rfl rfl)
theorem dX2_partOf_80 : decode cX2_partOf 80 = .ok (.bipush 101, 2) := dk_16 101 (dk_at dksX2_partOf_4 0 rfl rfl)
theorem dX2_partOf_82 : decode cX2_partOf 82 = .ok (.bipush 108, 2) := dk_16 108 (dk_at dksX2_partOf_4 2 rfl rfl)
theorem dX2_partOf_84 : decode cX2_partOf 84 = .ok (.bipush 115, 2) := dk_16 115 (dk_at dksX2_partOf_4 4 rfl rfl)
theorem dX2_partOf_86 : decode cX2_partOf 86 = .ok (.bipush 101, 2) := dk_16 101 (dk_at dksX2_partOf_4 6 rfl rfl)
theorem dX2_partOf_88 : decode cX2_partOf 88 = .ok (.invokestatic 123, 3) := dk_184 0 123 (dk_at dksX2_partOf_4 8 rfl rfl)
theorem dX2_partOf_91 : decode cX2_partOf 91 = .ok (.invokevirtual 183, 3) := dk_182 0 183 (dk_at dksX2_partOf_4 11 rfl rfl)
theorem dX2_partOf_94 : decode cX2_partOf 94 = .ok (.ifCond .eq 8, 3) := dk_153 0 8 (dk_at dksX2_partOf_4 14 rfl rfl)
theorem dX2_partOf_97 : decode cX2_partOf 97 = .ok (.bipush 43, 2) := dk_16 43 (dk_at dksX2_partOf_4 17 rfl rfl)
theorem dX2_partOf_99 : decode cX2_partOf 99 = .ok (.goto 4, 3) := dk_167 0 4 (dk_at dksX2_partOf_4 19 rfl rfl)
theorem dX2_partOf_102 : decode cX2_partOf 102 = .ok (.iconst (-1), 1) := dk_2 (dk_at dksX2_partOf_4 22 rfl rfl)
theorem dX2_partOf_103 : decode cX2_partOf 103 = .ok (.ireturn, 1) := dk_172 (dk_at dksX2_partOf_4 23 rfl rfl)
theorem dX2_partOf_104 : decode cX2_partOf 104 = .ok (.aload_n 0, 1) := dk_42 (dk_at dksX2_partOf_5 0 rfl rfl)
theorem dX2_partOf_105 : decode cX2_partOf 105 = .ok (.bipush 101, 2) := dk_16 101 (dk_at dksX2_partOf_5 1 rfl rfl)
theorem dX2_partOf_107 : decode cX2_partOf 107 = .ok (.bipush 110, 2) := dk_16 110 (dk_at dksX2_partOf_5 3 rfl rfl)
theorem dX2_partOf_109 : decode cX2_partOf 109 = .ok (.bipush 100, 2) := dk_16 100 (dk_at dksX2_partOf_5 5 rfl rfl)
theorem dX2_partOf_111 : decode cX2_partOf 111 = .ok (.invokestatic 119, 3) := dk_184 0 119 (dk_at dksX2_partOf_5 7 rfl rfl)
theorem dX2_partOf_114 : decode cX2_partOf 114 = .ok (.invokevirtual 183, 3) := dk_182 0 183 (dk_at dksX2_partOf_5 10 rfl rfl)
theorem dX2_partOf_117 : decode cX2_partOf 117 = .ok (.ifCond .eq 7, 3) := dk_153 0 7 (dk_at dksX2_partOf_5 13 rfl rfl)
theorem dX2_partOf_120 : decode cX2_partOf 120 = .ok (.iconst 0, 1) := dk_3 (dk_at dksX2_partOf_5 16 rfl rfl)
theorem dX2_partOf_121 : decode cX2_partOf 121 = .ok (.goto 4, 3) := dk_167 0 4 (dk_at dksX2_partOf_5 17 rfl rfl)
theorem dX2_partOf_124 : decode cX2_partOf 124 = .ok (.iconst (-1), 1) := dk_2 (dk_at dksX2_partOf_5 20 rfl rfl)
theorem dX2_partOf_125 : decode cX2_partOf 125 = .ok (.ireturn, 1) := dk_172 (dk_at dksX2_partOf_5 21 rfl rfl)
theorem dX2_partOf_126 : decode cX2_partOf 126 = .ok (.iconst (-1), 1) := dk_2 (dk_at dksX2_partOf_5 22 rfl rfl)
theorem dX2_partOf_127 : decode cX2_partOf 127 = .ok (.ireturn, 1) := dk_172 (dk_at dksX2_partOf_5 23 rfl rfl)
abbrev cX2_beginOne : ByteArray := prog_19_method_38_code
def yX2_beginOne : MethodName := ⟨RX2, "beginOne", "()I"⟩
def dkwX2_beginOne_9 : List UInt8 := [167, 0, 4, 4, 172]
abbrev dktX2_beginOne_9 : List UInt8 := dkwX2_beginOne_9 ++ []
def dkwX2_beginOne_8 : List UInt8 := [16, 116, 184, 0, 119, 182, 0, 183, 153, 0, 19, 42, 182, 0, 193, 153, 0, 12, 42, 16, 20, 182, 0, 190]
abbrev dktX2_beginOne_8 : List UInt8 := dkwX2_beginOne_8 ++ dktX2_beginOne_9
def dkwX2_beginOne_7 : List UInt8 := [16, 102, 184, 0, 115, 182, 0, 183, 153, 0, 10, 42, 16, 41, 182, 0, 190, 172, 42, 16, 110, 16, 111]
abbrev dktX2_beginOne_7 : List UInt8 := dkwX2_beginOne_7 ++ dktX2_beginOne_8
def dkwX2_beginOne_6 : List UInt8 := [16, 105, 16, 122, 16, 101, 184, 0, 123, 182, 0, 183, 153, 0, 9, 42, 8, 182, 0, 190, 172, 42, 16, 105]
abbrev dktX2_beginOne_6 : List UInt8 := dkwX2_beginOne_6 ++ dktX2_beginOne_7
def dkwX2_beginOne_5 : List UInt8 := [16, 40, 182, 0, 190, 172, 42, 180, 0, 92, 16, 45, 160, 0, 9, 42, 7, 182, 0, 190, 172, 42, 16, 115]
abbrev dktX2_beginOne_5 : List UInt8 := dkwX2_beginOne_5 ++ dktX2_beginOne_6
def dkwX2_beginOne_4 : List UInt8 := [184, 0, 119, 182, 0, 183, 153, 0, 8, 42, 182, 0, 187, 172, 42, 180, 0, 92, 16, 40, 160, 0, 10, 42]
abbrev dktX2_beginOne_4 : List UInt8 := dkwX2_beginOne_4 ++ dktX2_beginOne_5
def dkwX2_beginOne_3 : List UInt8 := [160, 0, 10, 42, 180, 0, 99, 167, 0, 4, 27, 182, 0, 180, 3, 172, 42, 16, 97, 16, 103, 16, 111]
abbrev dktX2_beginOne_3 : List UInt8 := dkwX2_beginOne_3 ++ dktX2_beginOne_4
def dkwX2_beginOne_2 : List UInt8 := [155, 0, 38, 42, 42, 180, 0, 92, 4, 160, 0, 7, 3, 167, 0, 4, 4, 42, 180, 0, 92, 4]
abbrev dktX2_beginOne_2 : List UInt8 := dkwX2_beginOne_2 ++ dktX2_beginOne_3
def dkwX2_beginOne_1 : List UInt8 := [60, 27, 155, 0, 13, 42, 27, 182, 0, 177, 154, 0, 5, 8, 172, 42, 180, 0, 92, 4, 159, 0, 7, 27]
abbrev dktX2_beginOne_1 : List UInt8 := dkwX2_beginOne_1 ++ dktX2_beginOne_2
def dkwX2_beginOne_0 : List UInt8 := [42, 180, 0, 92, 4, 160, 0, 15, 42, 180, 0, 99, 17, 39, 15, 164, 0, 5, 5, 172, 42, 182, 0, 174]
abbrev dktX2_beginOne_0 : List UInt8 := dkwX2_beginOne_0 ++ dktX2_beginOne_1
theorem dksX2_beginOne_0 : cX2_beginOne.data.toList.drop 0 = dktX2_beginOne_0 := by decide +kernel
theorem dksX2_beginOne_1 : cX2_beginOne.data.toList.drop 24 = dktX2_beginOne_1 := dk_seg dksX2_beginOne_0 24 rfl rfl
theorem dksX2_beginOne_2 : cX2_beginOne.data.toList.drop 48 = dktX2_beginOne_2 := dk_seg dksX2_beginOne_1 24 rfl rfl
theorem dksX2_beginOne_3 : cX2_beginOne.data.toList.drop 70 = dktX2_beginOne_3 := dk_seg dksX2_beginOne_2 22 rfl rfl
theorem dksX2_beginOne_4 : cX2_beginOne.data.toList.drop 93 = dktX2_beginOne_4 := dk_seg dksX2_beginOne_3 23 rfl rfl
theorem dksX2_beginOne_5 : cX2_beginOne.data.toList.drop 117 = dktX2_beginOne_5 := dk_seg dksX2_beginOne_4 24 rfl rfl
theorem dksX2_beginOne_6 : cX2_beginOne.data.toList.drop 141 = dktX2_beginOne_6 := dk_seg dksX2_beginOne_5 24 rfl rfl
theorem dksX2_beginOne_7 : cX2_beginOne.data.toList.drop 165 = dktX2_beginOne_7 := dk_seg dksX2_beginOne_6 24 rfl rfl
theorem dksX2_beginOne_8 : cX2_beginOne.data.toList.drop 188 = dktX2_beginOne_8 := dk_seg dksX2_beginOne_7 23 rfl rfl
theorem dksX2_beginOne_9 : cX2_beginOne.data.toList.drop 212 = dktX2_beginOne_9 := dk_seg dksX2_beginOne_8 24 rfl rfl
theorem dX2_beginOne_0 : decode cX2_beginOne 0 = .ok (.aload_n 0, 1) := dk_42 (dk_at dksX2_beginOne_0 0 rfl rfl)
theorem dX2_beginOne_1 : decode cX2_beginOne 1 = .ok (.getfield 92, 3) := dk_180 0 92 (dk_at dksX2_beginOne_0 1 rfl rfl)
theorem dX2_beginOne_4 : decode cX2_beginOne 4 = .ok (.iconst 1, 1) := dk_4 (dk_at dksX2_beginOne_0 4 rfl rfl)
theorem dX2_beginOne_5 : decode cX2_beginOne 5 = .ok (.if_icmp .ne 15, 3) := dk_160 0 15 (dk_at dksX2_beginOne_0 5 rfl rfl)
theorem dX2_beginOne_8 : decode cX2_beginOne 8 = .ok (.aload_n 0, 1) := dk_42 (dk_at dksX2_beginOne_0 8 rfl rfl)
theorem dX2_beginOne_9 : decode cX2_beginOne 9 = .ok (.getfield 99, 3) := dk_180 0 99 (dk_at dksX2_beginOne_0 9 rfl rfl)
theorem dX2_beginOne_12 : decode cX2_beginOne 12 = .ok (.sipush 9999, 3) := dk_17 39 15 (dk_at dksX2_beginOne_0 12 rfl rfl)
theorem dX2_beginOne_15 : decode cX2_beginOne 15 = .ok (.if_icmp .le 5, 3) := dk_164 0 5 (dk_at dksX2_beginOne_0 15 rfl rfl)
theorem dX2_beginOne_18 : decode cX2_beginOne 18 = .ok (.iconst 2, 1) := dk_5 (dk_at dksX2_beginOne_0 18 rfl rfl)
theorem dX2_beginOne_19 : decode cX2_beginOne 19 = .ok (.ireturn, 1) := dk_172 (dk_at dksX2_beginOne_0 19 rfl rfl)
theorem dX2_beginOne_20 : decode cX2_beginOne 20 = .ok (.aload_n 0, 1) := dk_42 (dk_at dksX2_beginOne_0 20 rfl rfl)
theorem dX2_beginOne_21 : decode cX2_beginOne 21 = .ok (.invokevirtual 174, 3) := dk_182 0 174 (dk_at dksX2_beginOne_0 21 rfl rfl)
theorem dX2_beginOne_24 : decode cX2_beginOne 24 = .ok (.istore_n 1, 1) := dk_60 (dk_at dksX2_beginOne_1 0 rfl rfl)
theorem dX2_beginOne_25 : decode cX2_beginOne 25 = .ok (.iload_n 1, 1) := dk_27 (dk_at dksX2_beginOne_1 1 rfl rfl)
theorem dX2_beginOne_26 : decode cX2_beginOne 26 = .ok (.ifCond .lt 13, 3) := dk_155 0 13 (dk_at dksX2_beginOne_1 2 rfl rfl)
theorem dX2_beginOne_29 : decode cX2_beginOne 29 = .ok (.aload_n 0, 1) := dk_42 (dk_at dksX2_beginOne_1 5 rfl rfl)
theorem dX2_beginOne_30 : decode cX2_beginOne 30 = .ok (.iload_n 1, 1) := dk_27 (dk_at dksX2_beginOne_1 6 rfl rfl)
theorem dX2_beginOne_31 : decode cX2_beginOne 31 = .ok (.invokevirtual 177, 3) := dk_182 0 177 (dk_at dksX2_beginOne_1 7 rfl rfl)
theorem dX2_beginOne_34 : decode cX2_beginOne 34 = .ok (.ifCond .ne 5, 3) := dk_154 0 5 (dk_at dksX2_beginOne_1 10 rfl rfl)
theorem dX2_beginOne_37 : decode cX2_beginOne 37 = .ok (.iconst 5, 1) := dk_8 (dk_at dksX2_beginOne_1 13 rfl rfl)
theorem dX2_beginOne_38 : decode cX2_beginOne 38 = .ok (.ireturn, 1) := dk_172 (dk_at dksX2_beginOne_1 14 rfl rfl)
theorem dX2_beginOne_39 : decode cX2_beginOne 39 = .ok (.aload_n 0, 1) := dk_42 (dk_at dksX2_beginOne_1 15 rfl rfl)
theorem dX2_beginOne_40 : decode cX2_beginOne 40 = .ok (.getfield 92, 3) := dk_180 0 92 (dk_at dksX2_beginOne_1 16 rfl rfl)
theorem dX2_beginOne_43 : decode cX2_beginOne 43 = .ok (.iconst 1, 1) := dk_4 (dk_at dksX2_beginOne_1 19 rfl rfl)
theorem dX2_beginOne_44 : decode cX2_beginOne 44 = .ok (.if_icmp .eq 7, 3) := dk_159 0 7 (dk_at dksX2_beginOne_1 20 rfl rfl)
theorem dX2_beginOne_47 : decode cX2_beginOne 47 = .ok (.iload_n 1, 1) := dk_27 (dk_at dksX2_beginOne_1 23 rfl rfl)
theorem dX2_beginOne_48 : decode cX2_beginOne 48 = .ok (.ifCond .lt 38, 3) := dk_155 0 38 (dk_at dksX2_beginOne_2 0 rfl rfl)
theorem dX2_beginOne_51 : decode cX2_beginOne 51 = .ok (.aload_n 0, 1) := dk_42 (dk_at dksX2_beginOne_2 3 rfl rfl)
theorem dX2_beginOne_52 : decode cX2_beginOne 52 = .ok (.aload_n 0, 1) := dk_42 (dk_at dksX2_beginOne_2 4 rfl rfl)
theorem dX2_beginOne_53 : decode cX2_beginOne 53 = .ok (.getfield 92, 3) := dk_180 0 92 (dk_at dksX2_beginOne_2 5 rfl rfl)
theorem dX2_beginOne_56 : decode cX2_beginOne 56 = .ok (.iconst 1, 1) := dk_4 (dk_at dksX2_beginOne_2 8 rfl rfl)
theorem dX2_beginOne_57 : decode cX2_beginOne 57 = .ok (.if_icmp .ne 7, 3) := dk_160 0 7 (dk_at dksX2_beginOne_2 9 rfl rfl)
theorem dX2_beginOne_60 : decode cX2_beginOne 60 = .ok (.iconst 0, 1) := dk_3 (dk_at dksX2_beginOne_2 12 rfl rfl)
theorem dX2_beginOne_61 : decode cX2_beginOne 61 = .ok (.goto 4, 3) := dk_167 0 4 (dk_at dksX2_beginOne_2 13 rfl rfl)
theorem dX2_beginOne_64 : decode cX2_beginOne 64 = .ok (.iconst 1, 1) := dk_4 (dk_at dksX2_beginOne_2 16 rfl rfl)
theorem dX2_beginOne_65 : decode cX2_beginOne 65 = .ok (.aload_n 0, 1) := dk_42 (dk_at dksX2_beginOne_2 17 rfl rfl)
theorem dX2_beginOne_66 : decode cX2_beginOne 66 = .ok (.getfield 92, 3) := dk_180 0 92 (dk_at dksX2_beginOne_2 18 rfl rfl)
theorem dX2_beginOne_69 : decode cX2_beginOne 69 = .ok (.iconst 1, 1) := dk_4 (dk_at dksX2_beginOne_2 21 rfl rfl)
theorem dX2_beginOne_70 : decode cX2_beginOne 70 = .ok (.if_icmp .ne 10, 3) := dk_160 0 10 (dk_at dksX2_beginOne_3 0 rfl rfl)
theorem dX2_beginOne_73 : decode cX2_beginOne 73 = .ok (.aload_n 0, 1) := dk_42 (dk_at dksX2_beginOne_3 3 rfl rfl)
theorem dX2_beginOne_74 : decode cX2_beginOne 74 = .ok (.getfield 99, 3) := dk_180 0 99 (dk_at dksX2_beginOne_3 4 rfl rfl)
theorem dX2_beginOne_77 : decode cX2_beginOne 77 = .ok (.goto 4, 3) := dk_167 0 4 (dk_at dksX2_beginOne_3 7 rfl rfl)
theorem dX2_beginOne_80 : decode cX2_beginOne 80 = .ok (.iload_n 1, 1) := dk_27 (dk_at dksX2_beginOne_3 10 rfl rfl)
theorem dX2_beginOne_81 : decode cX2_beginOne 81 = .ok (.invokevirtual 180, 3) := dk_182 0 180 (dk_at dksX2_beginOne_3 11 rfl rfl)
theorem dX2_beginOne_84 : decode cX2_beginOne 84 = .ok (.iconst 0, 1) := dk_3 (dk_at dksX2_beginOne_3 14 rfl rfl)
theorem dX2_beginOne_85 : decode cX2_beginOne 85 = .ok (.ireturn, 1) := dk_172 (dk_at dksX2_beginOne_3 15 rfl rfl)
theorem dX2_beginOne_86 : decode cX2_beginOne 86 = .ok (.aload_n 0, 1) := dk_42 (dk_at dksX2_beginOne_3 16 rfl rfl)
theorem dX2_beginOne_87 : decode cX2_beginOne 87 = .ok (.bipush 97, 2) := dk_16 97 (dk_at dksX2_beginOne_3 17 rfl rfl)
theorem dX2_beginOne_89 : decode cX2_beginOne 89 = .ok (.bipush 103, 2) := dk_16 103 (dk_at dksX2_beginOne_3 19 rfl rfl)
theorem dX2_beginOne_91 : decode cX2_beginOne 91 = .ok (.bipush 111, 2) := dk_16 111 (dk_at dksX2_beginOne_3 21 rfl rfl)
theorem dX2_beginOne_93 : decode cX2_beginOne 93 = .ok (.invokestatic 119, 3) := dk_184 0 119 (dk_at dksX2_beginOne_4 0 rfl rfl)
theorem dX2_beginOne_96 : decode cX2_beginOne 96 = .ok (.invokevirtual 183, 3) := dk_182 0 183 (dk_at dksX2_beginOne_4 3 rfl rfl)
theorem dX2_beginOne_99 : decode cX2_beginOne 99 = .ok (.ifCond .eq 8, 3) := dk_153 0 8 (dk_at dksX2_beginOne_4 6 rfl rfl)
theorem dX2_beginOne_102 : decode cX2_beginOne 102 = .ok (.aload_n 0, 1) := dk_42 (dk_at dksX2_beginOne_4 9 rfl rfl)
theorem dX2_beginOne_103 : decode cX2_beginOne 103 = .ok (.invokevirtual 187, 3) := dk_182 0 187 (dk_at dksX2_beginOne_4 10 rfl rfl)
theorem dX2_beginOne_106 : decode cX2_beginOne 106 = .ok (.ireturn, 1) := dk_172 (dk_at dksX2_beginOne_4 13 rfl rfl)
theorem dX2_beginOne_107 : decode cX2_beginOne 107 = .ok (.aload_n 0, 1) := dk_42 (dk_at dksX2_beginOne_4 14 rfl rfl)
theorem dX2_beginOne_108 : decode cX2_beginOne 108 = .ok (.getfield 92, 3) := dk_180 0 92 (dk_at dksX2_beginOne_4 15 rfl rfl)
theorem dX2_beginOne_111 : decode cX2_beginOne 111 = .ok (.bipush 40, 2) := dk_16 40 (dk_at dksX2_beginOne_4 18 rfl rfl)
theorem dX2_beginOne_113 : decode cX2_beginOne 113 = .ok (.if_icmp .ne 10, 3) := dk_160 0 10 (dk_at dksX2_beginOne_4 20 rfl rfl)
theorem dX2_beginOne_116 : decode cX2_beginOne 116 = .ok (.aload_n 0, 1) := dk_42 (dk_at dksX2_beginOne_4 23 rfl rfl)
theorem dX2_beginOne_117 : decode cX2_beginOne 117 = .ok (.bipush 40, 2) := dk_16 40 (dk_at dksX2_beginOne_5 0 rfl rfl)
theorem dX2_beginOne_119 : decode cX2_beginOne 119 = .ok (.invokevirtual 190, 3) := dk_182 0 190 (dk_at dksX2_beginOne_5 2 rfl rfl)
theorem dX2_beginOne_122 : decode cX2_beginOne 122 = .ok (.ireturn, 1) := dk_172 (dk_at dksX2_beginOne_5 5 rfl rfl)
theorem dX2_beginOne_123 : decode cX2_beginOne 123 = .ok (.aload_n 0, 1) := dk_42 (dk_at dksX2_beginOne_5 6 rfl rfl)
theorem dX2_beginOne_124 : decode cX2_beginOne 124 = .ok (.getfield 92, 3) := dk_180 0 92 (dk_at dksX2_beginOne_5 7 rfl rfl)
theorem dX2_beginOne_127 : decode cX2_beginOne 127 = .ok (.bipush 45, 2) := dk_16 45 (dk_at dksX2_beginOne_5 10 rfl rfl)
theorem dX2_beginOne_129 : decode cX2_beginOne 129 = .ok (.if_icmp .ne 9, 3) := dk_160 0 9 (dk_at dksX2_beginOne_5 12 rfl rfl)
theorem dX2_beginOne_132 : decode cX2_beginOne 132 = .ok (.aload_n 0, 1) := dk_42 (dk_at dksX2_beginOne_5 15 rfl rfl)
theorem dX2_beginOne_133 : decode cX2_beginOne 133 = .ok (.iconst 4, 1) := dk_7 (dk_at dksX2_beginOne_5 16 rfl rfl)
theorem dX2_beginOne_134 : decode cX2_beginOne 134 = .ok (.invokevirtual 190, 3) := dk_182 0 190 (dk_at dksX2_beginOne_5 17 rfl rfl)
theorem dX2_beginOne_137 : decode cX2_beginOne 137 = .ok (.ireturn, 1) := dk_172 (dk_at dksX2_beginOne_5 20 rfl rfl)
theorem dX2_beginOne_138 : decode cX2_beginOne 138 = .ok (.aload_n 0, 1) := dk_42 (dk_at dksX2_beginOne_5 21 rfl rfl)
theorem dX2_beginOne_139 : decode cX2_beginOne 139 = .ok (.bipush 115, 2) := dk_16 115 (dk_at dksX2_beginOne_5 22 rfl rfl)
theorem dX2_beginOne_141 : decode cX2_beginOne 141 = .ok (.bipush 105, 2) := dk_16 105 (dk_at dksX2_beginOne_6 0 rfl rfl)
theorem dX2_beginOne_143 : decode cX2_beginOne 143 = .ok (.bipush 122, 2) := dk_16 122 (dk_at dksX2_beginOne_6 2 rfl rfl)
theorem dX2_beginOne_145 : decode cX2_beginOne 145 = .ok (.bipush 101, 2) := dk_16 101 (dk_at dksX2_beginOne_6 4 rfl rfl)
theorem dX2_beginOne_147 : decode cX2_beginOne 147 = .ok (.invokestatic 123, 3) := dk_184 0 123 (dk_at dksX2_beginOne_6 6 rfl rfl)
theorem dX2_beginOne_150 : decode cX2_beginOne 150 = .ok (.invokevirtual 183, 3) := dk_182 0 183 (dk_at dksX2_beginOne_6 9 rfl rfl)
theorem dX2_beginOne_153 : decode cX2_beginOne 153 = .ok (.ifCond .eq 9, 3) := dk_153 0 9 (dk_at dksX2_beginOne_6 12 rfl rfl)
theorem dX2_beginOne_156 : decode cX2_beginOne 156 = .ok (.aload_n 0, 1) := dk_42 (dk_at dksX2_beginOne_6 15 rfl rfl)
theorem dX2_beginOne_157 : decode cX2_beginOne 157 = .ok (.iconst 5, 1) := dk_8 (dk_at dksX2_beginOne_6 16 rfl rfl)
theorem dX2_beginOne_158 : decode cX2_beginOne 158 = .ok (.invokevirtual 190, 3) := dk_182 0 190 (dk_at dksX2_beginOne_6 17 rfl rfl)
theorem dX2_beginOne_161 : decode cX2_beginOne 161 = .ok (.ireturn, 1) := dk_172 (dk_at dksX2_beginOne_6 20 rfl rfl)
theorem dX2_beginOne_162 : decode cX2_beginOne 162 = .ok (.aload_n 0, 1) := dk_42 (dk_at dksX2_beginOne_6 21 rfl rfl)
theorem dX2_beginOne_163 : decode cX2_beginOne 163 = .ok (.bipush 105, 2) := dk_16 105 (dk_at dksX2_beginOne_6 22 rfl rfl)
theorem dX2_beginOne_165 : decode cX2_beginOne 165 = .ok (.bipush 102, 2) := dk_16 102 (dk_at dksX2_beginOne_7 0 rfl rfl)
theorem dX2_beginOne_167 : decode cX2_beginOne 167 = .ok (.invokestatic 115, 3) := dk_184 0 115 (dk_at dksX2_beginOne_7 2 rfl rfl)
theorem dX2_beginOne_170 : decode cX2_beginOne 170 = .ok (.invokevirtual 183, 3) := dk_182 0 183 (dk_at dksX2_beginOne_7 5 rfl rfl)
theorem dX2_beginOne_173 : decode cX2_beginOne 173 = .ok (.ifCond .eq 10, 3) := dk_153 0 10 (dk_at dksX2_beginOne_7 8 rfl rfl)
theorem dX2_beginOne_176 : decode cX2_beginOne 176 = .ok (.aload_n 0, 1) := dk_42 (dk_at dksX2_beginOne_7 11 rfl rfl)
theorem dX2_beginOne_177 : decode cX2_beginOne 177 = .ok (.bipush 41, 2) := dk_16 41 (dk_at dksX2_beginOne_7 12 rfl rfl)
theorem dX2_beginOne_179 : decode cX2_beginOne 179 = .ok (.invokevirtual 190, 3) := dk_182 0 190 (dk_at dksX2_beginOne_7 14 rfl rfl)
theorem dX2_beginOne_182 : decode cX2_beginOne 182 = .ok (.ireturn, 1) := dk_172 (dk_at dksX2_beginOne_7 17 rfl rfl)
theorem dX2_beginOne_183 : decode cX2_beginOne 183 = .ok (.aload_n 0, 1) := dk_42 (dk_at dksX2_beginOne_7 18 rfl rfl)
theorem dX2_beginOne_184 : decode cX2_beginOne 184 = .ok (.bipush 110, 2) := dk_16 110 (dk_at dksX2_beginOne_7 19 rfl rfl)
theorem dX2_beginOne_186 : decode cX2_beginOne 186 = .ok (.bipush 111, 2) := dk_16 111 (dk_at dksX2_beginOne_7 21 rfl rfl)
theorem dX2_beginOne_188 : decode cX2_beginOne 188 = .ok (.bipush 116, 2) := dk_16 116 (dk_at dksX2_beginOne_8 0 rfl rfl)
theorem dX2_beginOne_190 : decode cX2_beginOne 190 = .ok (.invokestatic 119, 3) := dk_184 0 119 (dk_at dksX2_beginOne_8 2 rfl rfl)
theorem dX2_beginOne_193 : decode cX2_beginOne 193 = .ok (.invokevirtual 183, 3) := dk_182 0 183 (dk_at dksX2_beginOne_8 5 rfl rfl)
theorem dX2_beginOne_196 : decode cX2_beginOne 196 = .ok (.ifCond .eq 19, 3) := dk_153 0 19 (dk_at dksX2_beginOne_8 8 rfl rfl)
theorem dX2_beginOne_199 : decode cX2_beginOne 199 = .ok (.aload_n 0, 1) := dk_42 (dk_at dksX2_beginOne_8 11 rfl rfl)
theorem dX2_beginOne_200 : decode cX2_beginOne 200 = .ok (.invokevirtual 193, 3) := dk_182 0 193 (dk_at dksX2_beginOne_8 12 rfl rfl)
theorem dX2_beginOne_203 : decode cX2_beginOne 203 = .ok (.ifCond .eq 12, 3) := dk_153 0 12 (dk_at dksX2_beginOne_8 15 rfl rfl)
theorem dX2_beginOne_206 : decode cX2_beginOne 206 = .ok (.aload_n 0, 1) := dk_42 (dk_at dksX2_beginOne_8 18 rfl rfl)
theorem dX2_beginOne_207 : decode cX2_beginOne 207 = .ok (.bipush 20, 2) := dk_16 20 (dk_at dksX2_beginOne_8 19 rfl rfl)
theorem dX2_beginOne_209 : decode cX2_beginOne 209 = .ok (.invokevirtual 190, 3) := dk_182 0 190 (dk_at dksX2_beginOne_8 21 rfl rfl)
theorem dX2_beginOne_212 : decode cX2_beginOne 212 = .ok (.goto 4, 3) := dk_167 0 4 (dk_at dksX2_beginOne_9 0 rfl rfl)
theorem dX2_beginOne_215 : decode cX2_beginOne 215 = .ok (.iconst 1, 1) := dk_4 (dk_at dksX2_beginOne_9 3 rfl rfl)
theorem dX2_beginOne_216 : decode cX2_beginOne 216 = .ok (.ireturn, 1) := dk_172 (dk_at dksX2_beginOne_9 4 rfl rfl)
abbrev cX2_nameOf : ByteArray := prog_19_method_27_code
def yX2_nameOf : MethodName := ⟨RX2, "nameOf", "()I"⟩
def dkwX2_nameOf_8 : List UInt8 := [167, 0, 4, 2, 172]
abbrev dktX2_nameOf_8 : List UInt8 := dkwX2_nameOf_8 ++ []
def dkwX2_nameOf_7 : List UInt8 := [167, 0, 28, 42, 180, 0, 106, 16, 121, 16, 97, 16, 114, 16, 100, 184, 0, 123, 148, 154, 0, 8, 16, 7]
abbrev dktX2_nameOf_7 : List UInt8 := dkwX2_nameOf_7 ++ dktX2_nameOf_8
def dkwX2_nameOf_6 : List UInt8 := [180, 0, 106, 16, 119, 16, 101, 16, 105, 16, 103, 16, 104, 16, 116, 184, 0, 137, 148, 154, 0, 8, 16, 6]
abbrev dktX2_nameOf_6 : List UInt8 := dkwX2_nameOf_6 ++ dktX2_nameOf_7
def dkwX2_nameOf_5 : List UInt8 := [7, 172, 42, 180, 0, 106, 16, 114, 16, 111, 16, 112, 16, 101, 184, 0, 123, 148, 154, 0, 5, 8, 172, 42]
abbrev dktX2_nameOf_5 : List UInt8 := dkwX2_nameOf_5 ++ dktX2_nameOf_6
def dkwX2_nameOf_4 : List UInt8 := [154, 0, 5, 6, 172, 42, 180, 0, 106, 16, 103, 16, 111, 16, 97, 16, 108, 184, 0, 123, 148, 154, 0, 5]
abbrev dktX2_nameOf_4 : List UInt8 := dkwX2_nameOf_4 ++ dktX2_nameOf_5
def dkwX2_nameOf_3 : List UInt8 := [148, 154, 0, 5, 5, 172, 42, 180, 0, 106, 16, 119, 16, 105, 16, 110, 16, 100, 184, 0, 123, 148]
abbrev dktX2_nameOf_3 : List UInt8 := dkwX2_nameOf_3 ++ dktX2_nameOf_4
def dkwX2_nameOf_2 : List UInt8 := [184, 0, 127, 148, 154, 0, 5, 4, 172, 42, 180, 0, 106, 16, 112, 16, 97, 16, 99, 16, 101, 184, 0, 123]
abbrev dktX2_nameOf_2 : List UInt8 := dkwX2_nameOf_2 ++ dktX2_nameOf_3
def dkwX2_nameOf_1 : List UInt8 := [184, 0, 123, 148, 154, 0, 5, 3, 172, 42, 180, 0, 106, 16, 115, 16, 112, 16, 101, 16, 101, 16, 100]
abbrev dktX2_nameOf_1 : List UInt8 := dkwX2_nameOf_1 ++ dktX2_nameOf_2
def dkwX2_nameOf_0 : List UInt8 := [42, 180, 0, 92, 5, 159, 0, 5, 2, 172, 42, 180, 0, 106, 16, 97, 16, 119, 16, 97, 16, 121]
abbrev dktX2_nameOf_0 : List UInt8 := dkwX2_nameOf_0 ++ dktX2_nameOf_1
theorem dksX2_nameOf_0 : cX2_nameOf.data.toList.drop 0 = dktX2_nameOf_0 := by decide +kernel
theorem dksX2_nameOf_1 : cX2_nameOf.data.toList.drop 22 = dktX2_nameOf_1 := dk_seg dksX2_nameOf_0 22 rfl rfl
theorem dksX2_nameOf_2 : cX2_nameOf.data.toList.drop 45 = dktX2_nameOf_2 := dk_seg dksX2_nameOf_1 23 rfl rfl
theorem dksX2_nameOf_3 : cX2_nameOf.data.toList.drop 69 = dktX2_nameOf_3 := dk_seg dksX2_nameOf_2 24 rfl rfl
theorem dksX2_nameOf_4 : cX2_nameOf.data.toList.drop 91 = dktX2_nameOf_4 := dk_seg dksX2_nameOf_3 22 rfl rfl
theorem dksX2_nameOf_5 : cX2_nameOf.data.toList.drop 115 = dktX2_nameOf_5 := dk_seg dksX2_nameOf_4 24 rfl rfl
theorem dksX2_nameOf_6 : cX2_nameOf.data.toList.drop 139 = dktX2_nameOf_6 := dk_seg dksX2_nameOf_5 24 rfl rfl
theorem dksX2_nameOf_7 : cX2_nameOf.data.toList.drop 163 = dktX2_nameOf_7 := dk_seg dksX2_nameOf_6 24 rfl rfl
theorem dksX2_nameOf_8 : cX2_nameOf.data.toList.drop 187 = dktX2_nameOf_8 := dk_seg dksX2_nameOf_7 24 rfl rfl
theorem dX2_nameOf_0 : decode cX2_nameOf 0 = .ok (.aload_n 0, 1) := dk_42 (dk_at dksX2_nameOf_0 0 rfl rfl)
theorem dX2_nameOf_1 : decode cX2_nameOf 1 = .ok (.getfield 92, 3) := dk_180 0 92 (dk_at dksX2_nameOf_0 1 rfl rfl)
theorem dX2_nameOf_4 : decode cX2_nameOf 4 = .ok (.iconst 2, 1) := dk_5 (dk_at dksX2_nameOf_0 4 rfl rfl)
theorem dX2_nameOf_5 : decode cX2_nameOf 5 = .ok (.if_icmp .eq 5, 3) := dk_159 0 5 (dk_at dksX2_nameOf_0 5 rfl rfl)
theorem dX2_nameOf_8 : decode cX2_nameOf 8 = .ok (.iconst (-1), 1) := dk_2 (dk_at dksX2_nameOf_0 8 rfl rfl)
theorem dX2_nameOf_9 : decode cX2_nameOf 9 = .ok (.ireturn, 1) := dk_172 (dk_at dksX2_nameOf_0 9 rfl rfl)
theorem dX2_nameOf_10 : decode cX2_nameOf 10 = .ok (.aload_n 0, 1) := dk_42 (dk_at dksX2_nameOf_0 10 rfl rfl)
theorem dX2_nameOf_11 : decode cX2_nameOf 11 = .ok (.getfield 106, 3) := dk_180 0 106 (dk_at dksX2_nameOf_0 11 rfl rfl)
theorem dX2_nameOf_14 : decode cX2_nameOf 14 = .ok (.bipush 97, 2) := dk_16 97 (dk_at dksX2_nameOf_0 14 rfl rfl)
theorem dX2_nameOf_16 : decode cX2_nameOf 16 = .ok (.bipush 119, 2) := dk_16 119 (dk_at dksX2_nameOf_0 16 rfl rfl)
theorem dX2_nameOf_18 : decode cX2_nameOf 18 = .ok (.bipush 97, 2) := dk_16 97 (dk_at dksX2_nameOf_0 18 rfl rfl)
theorem dX2_nameOf_20 : decode cX2_nameOf 20 = .ok (.bipush 121, 2) := dk_16 121 (dk_at dksX2_nameOf_0 20 rfl rfl)
theorem dX2_nameOf_22 : decode cX2_nameOf 22 = .ok (.invokestatic 123, 3) := dk_184 0 123 (dk_at dksX2_nameOf_1 0 rfl rfl)
theorem dX2_nameOf_25 : decode cX2_nameOf 25 = .ok (.lcmp, 1) := dk_148 (dk_at dksX2_nameOf_1 3 rfl rfl)
theorem dX2_nameOf_26 : decode cX2_nameOf 26 = .ok (.ifCond .ne 5, 3) := dk_154 0 5 (dk_at dksX2_nameOf_1 4 rfl rfl)
theorem dX2_nameOf_29 : decode cX2_nameOf 29 = .ok (.iconst 0, 1) := dk_3 (dk_at dksX2_nameOf_1 7 rfl rfl)
theorem dX2_nameOf_30 : decode cX2_nameOf 30 = .ok (.ireturn, 1) := dk_172 (dk_at dksX2_nameOf_1 8 rfl rfl)
theorem dX2_nameOf_31 : decode cX2_nameOf 31 = .ok (.aload_n 0, 1) := dk_42 (dk_at dksX2_nameOf_1 9 rfl rfl)
theorem dX2_nameOf_32 : decode cX2_nameOf 32 = .ok (.getfield 106, 3) := dk_180 0 106 (dk_at dksX2_nameOf_1 10 rfl rfl)
theorem dX2_nameOf_35 : decode cX2_nameOf 35 = .ok (.bipush 115, 2) := dk_16 115 (dk_at dksX2_nameOf_1 13 rfl rfl)
theorem dX2_nameOf_37 : decode cX2_nameOf 37 = .ok (.bipush 112, 2) := dk_16 112 (dk_at dksX2_nameOf_1 15 rfl rfl)
theorem dX2_nameOf_39 : decode cX2_nameOf 39 = .ok (.bipush 101, 2) := dk_16 101 (dk_at dksX2_nameOf_1 17 rfl rfl)
theorem dX2_nameOf_41 : decode cX2_nameOf 41 = .ok (.bipush 101, 2) := dk_16 101 (dk_at dksX2_nameOf_1 19 rfl rfl)
theorem dX2_nameOf_43 : decode cX2_nameOf 43 = .ok (.bipush 100, 2) := dk_16 100 (dk_at dksX2_nameOf_1 21 rfl rfl)
theorem dX2_nameOf_45 : decode cX2_nameOf 45 = .ok (.invokestatic 127, 3) := dk_184 0 127 (dk_at dksX2_nameOf_2 0 rfl rfl)
theorem dX2_nameOf_48 : decode cX2_nameOf 48 = .ok (.lcmp, 1) := dk_148 (dk_at dksX2_nameOf_2 3 rfl rfl)
theorem dX2_nameOf_49 : decode cX2_nameOf 49 = .ok (.ifCond .ne 5, 3) := dk_154 0 5 (dk_at dksX2_nameOf_2 4 rfl rfl)
theorem dX2_nameOf_52 : decode cX2_nameOf 52 = .ok (.iconst 1, 1) := dk_4 (dk_at dksX2_nameOf_2 7 rfl rfl)
theorem dX2_nameOf_53 : decode cX2_nameOf 53 = .ok (.ireturn, 1) := dk_172 (dk_at dksX2_nameOf_2 8 rfl rfl)
theorem dX2_nameOf_54 : decode cX2_nameOf 54 = .ok (.aload_n 0, 1) := dk_42 (dk_at dksX2_nameOf_2 9 rfl rfl)
theorem dX2_nameOf_55 : decode cX2_nameOf 55 = .ok (.getfield 106, 3) := dk_180 0 106 (dk_at dksX2_nameOf_2 10 rfl rfl)
theorem dX2_nameOf_58 : decode cX2_nameOf 58 = .ok (.bipush 112, 2) := dk_16 112 (dk_at dksX2_nameOf_2 13 rfl rfl)
theorem dX2_nameOf_60 : decode cX2_nameOf 60 = .ok (.bipush 97, 2) := dk_16 97 (dk_at dksX2_nameOf_2 15 rfl rfl)
theorem dX2_nameOf_62 : decode cX2_nameOf 62 = .ok (.bipush 99, 2) := dk_16 99 (dk_at dksX2_nameOf_2 17 rfl rfl)
theorem dX2_nameOf_64 : decode cX2_nameOf 64 = .ok (.bipush 101, 2) := dk_16 101 (dk_at dksX2_nameOf_2 19 rfl rfl)
theorem dX2_nameOf_66 : decode cX2_nameOf 66 = .ok (.invokestatic 123, 3) := dk_184 0 123 (dk_at dksX2_nameOf_2 21 rfl rfl)
theorem dX2_nameOf_69 : decode cX2_nameOf 69 = .ok (.lcmp, 1) := dk_148 (dk_at dksX2_nameOf_3 0 rfl rfl)
theorem dX2_nameOf_70 : decode cX2_nameOf 70 = .ok (.ifCond .ne 5, 3) := dk_154 0 5 (dk_at dksX2_nameOf_3 1 rfl rfl)
theorem dX2_nameOf_73 : decode cX2_nameOf 73 = .ok (.iconst 2, 1) := dk_5 (dk_at dksX2_nameOf_3 4 rfl rfl)
theorem dX2_nameOf_74 : decode cX2_nameOf 74 = .ok (.ireturn, 1) := dk_172 (dk_at dksX2_nameOf_3 5 rfl rfl)
theorem dX2_nameOf_75 : decode cX2_nameOf 75 = .ok (.aload_n 0, 1) := dk_42 (dk_at dksX2_nameOf_3 6 rfl rfl)
theorem dX2_nameOf_76 : decode cX2_nameOf 76 = .ok (.getfield 106, 3) := dk_180 0 106 (dk_at dksX2_nameOf_3 7 rfl rfl)
theorem dX2_nameOf_79 : decode cX2_nameOf 79 = .ok (.bipush 119, 2) := dk_16 119 (dk_at dksX2_nameOf_3 10 rfl rfl)
theorem dX2_nameOf_81 : decode cX2_nameOf 81 = .ok (.bipush 105, 2) := dk_16 105 (dk_at dksX2_nameOf_3 12 rfl rfl)
theorem dX2_nameOf_83 : decode cX2_nameOf 83 = .ok (.bipush 110, 2) := dk_16 110 (dk_at dksX2_nameOf_3 14 rfl rfl)
theorem dX2_nameOf_85 : decode cX2_nameOf 85 = .ok (.bipush 100, 2) := dk_16 100 (dk_at dksX2_nameOf_3 16 rfl rfl)
theorem dX2_nameOf_87 : decode cX2_nameOf 87 = .ok (.invokestatic 123, 3) := dk_184 0 123 (dk_at dksX2_nameOf_3 18 rfl rfl)
theorem dX2_nameOf_90 : decode cX2_nameOf 90 = .ok (.lcmp, 1) := dk_148 (dk_at dksX2_nameOf_3 21 rfl rfl)
theorem dX2_nameOf_91 : decode cX2_nameOf 91 = .ok (.ifCond .ne 5, 3) := dk_154 0 5 (dk_at dksX2_nameOf_4 0 rfl rfl)
theorem dX2_nameOf_94 : decode cX2_nameOf 94 = .ok (.iconst 3, 1) := dk_6 (dk_at dksX2_nameOf_4 3 rfl rfl)
theorem dX2_nameOf_95 : decode cX2_nameOf 95 = .ok (.ireturn, 1) := dk_172 (dk_at dksX2_nameOf_4 4 rfl rfl)
theorem dX2_nameOf_96 : decode cX2_nameOf 96 = .ok (.aload_n 0, 1) := dk_42 (dk_at dksX2_nameOf_4 5 rfl rfl)
theorem dX2_nameOf_97 : decode cX2_nameOf 97 = .ok (.getfield 106, 3) := dk_180 0 106 (dk_at dksX2_nameOf_4 6 rfl rfl)
theorem dX2_nameOf_100 : decode cX2_nameOf 100 = .ok (.bipush 103, 2) := dk_16 103 (dk_at dksX2_nameOf_4 9 rfl rfl)
theorem dX2_nameOf_102 : decode cX2_nameOf 102 = .ok (.bipush 111, 2) := dk_16 111 (dk_at dksX2_nameOf_4 11 rfl rfl)
theorem dX2_nameOf_104 : decode cX2_nameOf 104 = .ok (.bipush 97, 2) := dk_16 97 (dk_at dksX2_nameOf_4 13 rfl rfl)
theorem dX2_nameOf_106 : decode cX2_nameOf 106 = .ok (.bipush 108, 2) := dk_16 108 (dk_at dksX2_nameOf_4 15 rfl rfl)
theorem dX2_nameOf_108 : decode cX2_nameOf 108 = .ok (.invokestatic 123, 3) := dk_184 0 123 (dk_at dksX2_nameOf_4 17 rfl rfl)
theorem dX2_nameOf_111 : decode cX2_nameOf 111 = .ok (.lcmp, 1) := dk_148 (dk_at dksX2_nameOf_4 20 rfl rfl)
theorem dX2_nameOf_112 : decode cX2_nameOf 112 = .ok (.ifCond .ne 5, 3) := dk_154 0 5 (dk_at dksX2_nameOf_4 21 rfl rfl)
theorem dX2_nameOf_115 : decode cX2_nameOf 115 = .ok (.iconst 4, 1) := dk_7 (dk_at dksX2_nameOf_5 0 rfl rfl)
theorem dX2_nameOf_116 : decode cX2_nameOf 116 = .ok (.ireturn, 1) := dk_172 (dk_at dksX2_nameOf_5 1 rfl rfl)
theorem dX2_nameOf_117 : decode cX2_nameOf 117 = .ok (.aload_n 0, 1) := dk_42 (dk_at dksX2_nameOf_5 2 rfl rfl)
theorem dX2_nameOf_118 : decode cX2_nameOf 118 = .ok (.getfield 106, 3) := dk_180 0 106 (dk_at dksX2_nameOf_5 3 rfl rfl)
theorem dX2_nameOf_121 : decode cX2_nameOf 121 = .ok (.bipush 114, 2) := dk_16 114 (dk_at dksX2_nameOf_5 6 rfl rfl)
theorem dX2_nameOf_123 : decode cX2_nameOf 123 = .ok (.bipush 111, 2) := dk_16 111 (dk_at dksX2_nameOf_5 8 rfl rfl)
theorem dX2_nameOf_125 : decode cX2_nameOf 125 = .ok (.bipush 112, 2) := dk_16 112 (dk_at dksX2_nameOf_5 10 rfl rfl)
theorem dX2_nameOf_127 : decode cX2_nameOf 127 = .ok (.bipush 101, 2) := dk_16 101 (dk_at dksX2_nameOf_5 12 rfl rfl)
theorem dX2_nameOf_129 : decode cX2_nameOf 129 = .ok (.invokestatic 123, 3) := dk_184 0 123 (dk_at dksX2_nameOf_5 14 rfl rfl)
theorem dX2_nameOf_132 : decode cX2_nameOf 132 = .ok (.lcmp, 1) := dk_148 (dk_at dksX2_nameOf_5 17 rfl rfl)
theorem dX2_nameOf_133 : decode cX2_nameOf 133 = .ok (.ifCond .ne 5, 3) := dk_154 0 5 (dk_at dksX2_nameOf_5 18 rfl rfl)
theorem dX2_nameOf_136 : decode cX2_nameOf 136 = .ok (.iconst 5, 1) := dk_8 (dk_at dksX2_nameOf_5 21 rfl rfl)
theorem dX2_nameOf_137 : decode cX2_nameOf 137 = .ok (.ireturn, 1) := dk_172 (dk_at dksX2_nameOf_5 22 rfl rfl)
theorem dX2_nameOf_138 : decode cX2_nameOf 138 = .ok (.aload_n 0, 1) := dk_42 (dk_at dksX2_nameOf_5 23 rfl rfl)
theorem dX2_nameOf_139 : decode cX2_nameOf 139 = .ok (.getfield 106, 3) := dk_180 0 106 (dk_at dksX2_nameOf_6 0 rfl rfl)
theorem dX2_nameOf_142 : decode cX2_nameOf 142 = .ok (.bipush 119, 2) := dk_16 119 (dk_at dksX2_nameOf_6 3 rfl rfl)
theorem dX2_nameOf_144 : decode cX2_nameOf 144 = .ok (.bipush 101, 2) := dk_16 101 (dk_at dksX2_nameOf_6 5 rfl rfl)
theorem dX2_nameOf_146 : decode cX2_nameOf 146 = .ok (.bipush 105, 2) := dk_16 105 (dk_at dksX2_nameOf_6 7 rfl rfl)
theorem dX2_nameOf_148 : decode cX2_nameOf 148 = .ok (.bipush 103, 2) := dk_16 103 (dk_at dksX2_nameOf_6 9 rfl rfl)
theorem dX2_nameOf_150 : decode cX2_nameOf 150 = .ok (.bipush 104, 2) := dk_16 104 (dk_at dksX2_nameOf_6 11 rfl rfl)
theorem dX2_nameOf_152 : decode cX2_nameOf 152 = .ok (.bipush 116, 2) := dk_16 116 (dk_at dksX2_nameOf_6 13 rfl rfl)
theorem dX2_nameOf_154 : decode cX2_nameOf 154 = .ok (.invokestatic 137, 3) := dk_184 0 137 (dk_at dksX2_nameOf_6 15 rfl rfl)
theorem dX2_nameOf_157 : decode cX2_nameOf 157 = .ok (.lcmp, 1) := dk_148 (dk_at dksX2_nameOf_6 18 rfl rfl)
theorem dX2_nameOf_158 : decode cX2_nameOf 158 = .ok (.ifCond .ne 8, 3) := dk_154 0 8 (dk_at dksX2_nameOf_6 19 rfl rfl)
theorem dX2_nameOf_161 : decode cX2_nameOf 161 = .ok (.bipush 6, 2) := dk_16 6 (dk_at dksX2_nameOf_6 22 rfl rfl)
theorem dX2_nameOf_163 : decode cX2_nameOf 163 = .ok (.goto 28, 3) := dk_167 0 28 (dk_at dksX2_nameOf_7 0 rfl rfl)
theorem dX2_nameOf_166 : decode cX2_nameOf 166 = .ok (.aload_n 0, 1) := dk_42 (dk_at dksX2_nameOf_7 3 rfl rfl)
theorem dX2_nameOf_167 : decode cX2_nameOf 167 = .ok (.getfield 106, 3) := dk_180 0 106 (dk_at dksX2_nameOf_7 4 rfl rfl)
theorem dX2_nameOf_170 : decode cX2_nameOf 170 = .ok (.bipush 121, 2) := dk_16 121 (dk_at dksX2_nameOf_7 7 rfl rfl)
theorem dX2_nameOf_172 : decode cX2_nameOf 172 = .ok (.bipush 97, 2) := dk_16 97 (dk_at dksX2_nameOf_7 9 rfl rfl)
theorem dX2_nameOf_174 : decode cX2_nameOf 174 = .ok (.bipush 114, 2) := dk_16 114 (dk_at dksX2_nameOf_7 11 rfl rfl)
theorem dX2_nameOf_176 : decode cX2_nameOf 176 = .ok (.bipush 100, 2) := dk_16 100 (dk_at dksX2_nameOf_7 13 rfl rfl)
theorem dX2_nameOf_178 : decode cX2_nameOf 178 = .ok (.invokestatic 123, 3) := dk_184 0 123 (dk_at dksX2_nameOf_7 15 rfl rfl)
theorem dX2_nameOf_181 : decode cX2_nameOf 181 = .ok (.lcmp, 1) := dk_148 (dk_at dksX2_nameOf_7 18 rfl rfl)
theorem dX2_nameOf_182 : decode cX2_nameOf 182 = .ok (.ifCond .ne 8, 3) := dk_154 0 8 (dk_at dksX2_nameOf_7 19 rfl rfl)
theorem dX2_nameOf_185 : decode cX2_nameOf 185 = .ok (.bipush 7, 2) := dk_16 7 (dk_at dksX2_nameOf_7 22 rfl rfl)
theorem dX2_nameOf_187 : decode cX2_nameOf 187 = .ok (.goto 4, 3) := dk_167 0 4 (dk_at dksX2_nameOf_8 0 rfl rfl)
theorem dX2_nameOf_190 : decode cX2_nameOf 190 = .ok (.iconst (-1), 1) := dk_2 (dk_at dksX2_nameOf_8 3 rfl rfl)
theorem dX2_nameOf_191 : decode cX2_nameOf 191 = .ok (.ireturn, 1) := dk_172 (dk_at dksX2_nameOf_8 4 rfl rfl)
abbrev cX2_isOf : ByteArray := prog_19_method_28_code
def yX2_isOf : MethodName := ⟨RX2, "isOf", "(I)Z"⟩
def dkwX2_isOf_2 : List UInt8 := [161, 0, 7, 4, 167, 0, 4, 3, 172]
abbrev dktX2_isOf_2 : List UInt8 := dkwX2_isOf_2 ++ []
def dkwX2_isOf_1 : List UInt8 := [162, 0, 19, 42, 180, 0, 141, 6, 159, 0, 7, 4, 167, 0, 20, 3, 167, 0, 16, 42, 180, 0, 141, 6]
abbrev dktX2_isOf_1 : List UInt8 := dkwX2_isOf_1 ++ dktX2_isOf_2
def dkwX2_isOf_0 : List UInt8 := [27, 8, 162, 0, 19, 42, 180, 0, 141, 5, 163, 0, 7, 4, 167, 0, 42, 3, 167, 0, 38, 27, 16, 7]
abbrev dktX2_isOf_0 : List UInt8 := dkwX2_isOf_0 ++ dktX2_isOf_1
theorem dksX2_isOf_0 : cX2_isOf.data.toList.drop 0 = dktX2_isOf_0 := by decide +kernel
theorem dksX2_isOf_1 : cX2_isOf.data.toList.drop 24 = dktX2_isOf_1 := dk_seg dksX2_isOf_0 24 rfl rfl
theorem dksX2_isOf_2 : cX2_isOf.data.toList.drop 48 = dktX2_isOf_2 := dk_seg dksX2_isOf_1 24 rfl rfl
theorem dX2_isOf_0 : decode cX2_isOf 0 = .ok (.iload_n 1, 1) := dk_27 (dk_at dksX2_isOf_0 0 rfl rfl)
theorem dX2_isOf_1 : decode cX2_isOf 1 = .ok (.iconst 5, 1) := dk_8 (dk_at dksX2_isOf_0 1 rfl rfl)
theorem dX2_isOf_2 : decode cX2_isOf 2 = .ok (.if_icmp .ge 19, 3) := dk_162 0 19 (dk_at dksX2_isOf_0 2 rfl rfl)
theorem dX2_isOf_5 : decode cX2_isOf 5 = .ok (.aload_n 0, 1) := dk_42 (dk_at dksX2_isOf_0 5 rfl rfl)
theorem dX2_isOf_6 : decode cX2_isOf 6 = .ok (.getfield 141, 3) := dk_180 0 141 (dk_at dksX2_isOf_0 6 rfl rfl)
theorem dX2_isOf_9 : decode cX2_isOf 9 = .ok (.iconst 2, 1) := dk_5 (dk_at dksX2_isOf_0 9 rfl rfl)
theorem dX2_isOf_10 : decode cX2_isOf 10 = .ok (.if_icmp .gt 7, 3) := dk_163 0 7 (dk_at dksX2_isOf_0 10 rfl rfl)
theorem dX2_isOf_13 : decode cX2_isOf 13 = .ok (.iconst 1, 1) := dk_4 (dk_at dksX2_isOf_0 13 rfl rfl)
theorem dX2_isOf_14 : decode cX2_isOf 14 = .ok (.goto 42, 3) := dk_167 0 42 (dk_at dksX2_isOf_0 14 rfl rfl)
theorem dX2_isOf_17 : decode cX2_isOf 17 = .ok (.iconst 0, 1) := dk_3 (dk_at dksX2_isOf_0 17 rfl rfl)
theorem dX2_isOf_18 : decode cX2_isOf 18 = .ok (.goto 38, 3) := dk_167 0 38 (dk_at dksX2_isOf_0 18 rfl rfl)
theorem dX2_isOf_21 : decode cX2_isOf 21 = .ok (.iload_n 1, 1) := dk_27 (dk_at dksX2_isOf_0 21 rfl rfl)
theorem dX2_isOf_22 : decode cX2_isOf 22 = .ok (.bipush 7, 2) := dk_16 7 (dk_at dksX2_isOf_0 22 rfl rfl)
theorem dX2_isOf_24 : decode cX2_isOf 24 = .ok (.if_icmp .ge 19, 3) := dk_162 0 19 (dk_at dksX2_isOf_1 0 rfl rfl)
theorem dX2_isOf_27 : decode cX2_isOf 27 = .ok (.aload_n 0, 1) := dk_42 (dk_at dksX2_isOf_1 3 rfl rfl)
theorem dX2_isOf_28 : decode cX2_isOf 28 = .ok (.getfield 141, 3) := dk_180 0 141 (dk_at dksX2_isOf_1 4 rfl rfl)
theorem dX2_isOf_31 : decode cX2_isOf 31 = .ok (.iconst 3, 1) := dk_6 (dk_at dksX2_isOf_1 7 rfl rfl)
theorem dX2_isOf_32 : decode cX2_isOf 32 = .ok (.if_icmp .eq 7, 3) := dk_159 0 7 (dk_at dksX2_isOf_1 8 rfl rfl)
theorem dX2_isOf_35 : decode cX2_isOf 35 = .ok (.iconst 1, 1) := dk_4 (dk_at dksX2_isOf_1 11 rfl rfl)
theorem dX2_isOf_36 : decode cX2_isOf 36 = .ok (.goto 20, 3) := dk_167 0 20 (dk_at dksX2_isOf_1 12 rfl rfl)
theorem dX2_isOf_39 : decode cX2_isOf 39 = .ok (.iconst 0, 1) := dk_3 (dk_at dksX2_isOf_1 15 rfl rfl)
theorem dX2_isOf_40 : decode cX2_isOf 40 = .ok (.goto 16, 3) := dk_167 0 16 (dk_at dksX2_isOf_1 16 rfl rfl)
theorem dX2_isOf_43 : decode cX2_isOf 43 = .ok (.aload_n 0, 1) := dk_42 (dk_at dksX2_isOf_1 19 rfl rfl)
theorem dX2_isOf_44 : decode cX2_isOf 44 = .ok (.getfield 141, 3) := dk_180 0 141 (dk_at dksX2_isOf_1 20 rfl rfl)
theorem dX2_isOf_47 : decode cX2_isOf 47 = .ok (.iconst 3, 1) := dk_6 (dk_at dksX2_isOf_1 23 rfl rfl)
theorem dX2_isOf_48 : decode cX2_isOf 48 = .ok (.if_icmp .lt 7, 3) := dk_161 0 7 (dk_at dksX2_isOf_2 0 rfl rfl)
theorem dX2_isOf_51 : decode cX2_isOf 51 = .ok (.iconst 1, 1) := dk_4 (dk_at dksX2_isOf_2 3 rfl rfl)
theorem dX2_isOf_52 : decode cX2_isOf 52 = .ok (.goto 4, 3) := dk_167 0 4 (dk_at dksX2_isOf_2 4 rfl rfl)
theorem dX2_isOf_55 : decode cX2_isOf 55 = .ok (.iconst 0, 1) := dk_3 (dk_at dksX2_isOf_2 7 rfl rfl)
theorem dX2_isOf_56 : decode cX2_isOf 56 = .ok (.ireturn, 1) := dk_172 (dk_at dksX2_isOf_2 8 rfl rfl)
abbrev cX2_one : ByteArray := prog_19_method_36_code
def yX2_one : MethodName := ⟨RX2, "one", "(II)V"⟩
def dkwX2_one_0 : List UInt8 := [42, 27, 28, 182, 0, 150, 42, 182, 0, 164, 42, 4, 181, 0, 167, 42, 16, 7, 182, 0, 171, 177]
abbrev dktX2_one_0 : List UInt8 := dkwX2_one_0 ++ []
theorem dksX2_one_0 : cX2_one.data.toList.drop 0 = dktX2_one_0 := by decide +kernel
theorem dX2_one_0 : decode cX2_one 0 = .ok (.aload_n 0, 1) := dk_42 (dk_at dksX2_one_0 0 rfl rfl)
theorem dX2_one_1 : decode cX2_one 1 = .ok (.iload_n 1, 1) := dk_27 (dk_at dksX2_one_0 1 rfl rfl)
theorem dX2_one_2 : decode cX2_one 2 = .ok (.iload_n 2, 1) := dk_28 (dk_at dksX2_one_0 2 rfl rfl)
theorem dX2_one_3 : decode cX2_one 3 = .ok (.invokevirtual 150, 3) := dk_182 0 150 (dk_at dksX2_one_0 3 rfl rfl)
theorem dX2_one_6 : decode cX2_one 6 = .ok (.aload_n 0, 1) := dk_42 (dk_at dksX2_one_0 6 rfl rfl)
theorem dX2_one_7 : decode cX2_one 7 = .ok (.invokevirtual 164, 3) := dk_182 0 164 (dk_at dksX2_one_0 7 rfl rfl)
theorem dX2_one_10 : decode cX2_one 10 = .ok (.aload_n 0, 1) := dk_42 (dk_at dksX2_one_0 10 rfl rfl)
theorem dX2_one_11 : decode cX2_one 11 = .ok (.iconst 1, 1) := dk_4 (dk_at dksX2_one_0 11 rfl rfl)
theorem dX2_one_12 : decode cX2_one 12 = .ok (.putfield 167, 3) := dk_181 0 167 (dk_at dksX2_one_0 12 rfl rfl)
theorem dX2_one_15 : decode cX2_one 15 = .ok (.aload_n 0, 1) := dk_42 (dk_at dksX2_one_0 15 rfl rfl)
theorem dX2_one_16 : decode cX2_one 16 = .ok (.bipush 7, 2) := dk_16 7 (dk_at dksX2_one_0 16 rfl rfl)
theorem dX2_one_18 : decode cX2_one 18 = .ok (.invokevirtual 171, 3) := dk_182 0 171 (dk_at dksX2_one_0 18 rfl rfl)
theorem dX2_one_21 : decode cX2_one 21 = .ok (.return_, 1) := dk_177 (dk_at dksX2_one_0 21 rfl rfl)
abbrev cX2_agoOne : ByteArray := prog_19_method_37_code
def yX2_agoOne : MethodName := ⟨RX2, "agoOne", "()I"⟩
def dkwX2_agoOne_3 : List UInt8 := [182, 0, 180, 3, 172]
abbrev dktX2_agoOne_3 : List UInt8 := dkwX2_agoOne_3 ++ []
def dkwX2_agoOne_2 : List UInt8 := [172, 28, 7, 163, 0, 11, 42, 28, 182, 0, 177, 154, 0, 5, 8, 172, 42, 5, 16, 10, 27, 104, 28, 96]
abbrev dktX2_agoOne_2 : List UInt8 := dkwX2_agoOne_2 ++ dktX2_agoOne_3
def dkwX2_agoOne_1 : List UInt8 := [154, 0, 5, 5, 172, 42, 180, 0, 99, 60, 42, 182, 0, 164, 42, 182, 0, 174, 61, 28, 156, 0, 5, 4]
abbrev dktX2_agoOne_1 : List UInt8 := dkwX2_agoOne_1 ++ dktX2_agoOne_2
def dkwX2_agoOne_0 : List UInt8 := [42, 182, 0, 164, 42, 180, 0, 92, 4, 159, 0, 5, 4, 172, 42, 180, 0, 99, 4, 16, 9, 184, 0, 71]
abbrev dktX2_agoOne_0 : List UInt8 := dkwX2_agoOne_0 ++ dktX2_agoOne_1
theorem dksX2_agoOne_0 : cX2_agoOne.data.toList.drop 0 = dktX2_agoOne_0 := by decide +kernel
theorem dksX2_agoOne_1 : cX2_agoOne.data.toList.drop 24 = dktX2_agoOne_1 := dk_seg dksX2_agoOne_0 24 rfl rfl
theorem dksX2_agoOne_2 : cX2_agoOne.data.toList.drop 48 = dktX2_agoOne_2 := dk_seg dksX2_agoOne_1 24 rfl rfl
theorem dksX2_agoOne_3 : cX2_agoOne.data.toList.drop 72 = dktX2_agoOne_3 := dk_seg dksX2_agoOne_2 24 rfl rfl
theorem dX2_agoOne_0 : decode cX2_agoOne 0 = .ok (.aload_n 0, 1) := dk_42 (dk_at dksX2_agoOne_0 0 rfl rfl)
theorem dX2_agoOne_1 : decode cX2_agoOne 1 = .ok (.invokevirtual 164, 3) := dk_182 0 164 (dk_at dksX2_agoOne_0 1 rfl rfl)
theorem dX2_agoOne_4 : decode cX2_agoOne 4 = .ok (.aload_n 0, 1) := dk_42 (dk_at dksX2_agoOne_0 4 rfl rfl)
theorem dX2_agoOne_5 : decode cX2_agoOne 5 = .ok (.getfield 92, 3) := dk_180 0 92 (dk_at dksX2_agoOne_0 5 rfl rfl)
theorem dX2_agoOne_8 : decode cX2_agoOne 8 = .ok (.iconst 1, 1) := dk_4 (dk_at dksX2_agoOne_0 8 rfl rfl)
theorem dX2_agoOne_9 : decode cX2_agoOne 9 = .ok (.if_icmp .eq 5, 3) := dk_159 0 5 (dk_at dksX2_agoOne_0 9 rfl rfl)
theorem dX2_agoOne_12 : decode cX2_agoOne 12 = .ok (.iconst 1, 1) := dk_4 (dk_at dksX2_agoOne_0 12 rfl rfl)
theorem dX2_agoOne_13 : decode cX2_agoOne 13 = .ok (.ireturn, 1) := dk_172 (dk_at dksX2_agoOne_0 13 rfl rfl)
theorem dX2_agoOne_14 : decode cX2_agoOne 14 = .ok (.aload_n 0, 1) := dk_42 (dk_at dksX2_agoOne_0 14 rfl rfl)
theorem dX2_agoOne_15 : decode cX2_agoOne 15 = .ok (.getfield 99, 3) := dk_180 0 99 (dk_at dksX2_agoOne_0 15 rfl rfl)
theorem dX2_agoOne_18 : decode cX2_agoOne 18 = .ok (.iconst 1, 1) := dk_4 (dk_at dksX2_agoOne_0 18 rfl rfl)
theorem dX2_agoOne_19 : decode cX2_agoOne 19 = .ok (.bipush 9, 2) := dk_16 9 (dk_at dksX2_agoOne_0 19 rfl rfl)
theorem dX2_agoOne_21 : decode cX2_agoOne 21 = .ok (.invokestatic 71, 3) := dk_184 0 71 (dk_at dksX2_agoOne_0 21 rfl rfl)
theorem dX2_agoOne_24 : decode cX2_agoOne 24 = .ok (.ifCond .ne 5, 3) := dk_154 0 5 (dk_at dksX2_agoOne_1 0 rfl rfl)
theorem dX2_agoOne_27 : decode cX2_agoOne 27 = .ok (.iconst 2, 1) := dk_5 (dk_at dksX2_agoOne_1 3 rfl rfl)
theorem dX2_agoOne_28 : decode cX2_agoOne 28 = .ok (.ireturn, 1) := dk_172 (dk_at dksX2_agoOne_1 4 rfl rfl)
theorem dX2_agoOne_29 : decode cX2_agoOne 29 = .ok (.aload_n 0, 1) := dk_42 (dk_at dksX2_agoOne_1 5 rfl rfl)
theorem dX2_agoOne_30 : decode cX2_agoOne 30 = .ok (.getfield 99, 3) := dk_180 0 99 (dk_at dksX2_agoOne_1 6 rfl rfl)
theorem dX2_agoOne_33 : decode cX2_agoOne 33 = .ok (.istore_n 1, 1) := dk_60 (dk_at dksX2_agoOne_1 9 rfl rfl)
theorem dX2_agoOne_34 : decode cX2_agoOne 34 = .ok (.aload_n 0, 1) := dk_42 (dk_at dksX2_agoOne_1 10 rfl rfl)
theorem dX2_agoOne_35 : decode cX2_agoOne 35 = .ok (.invokevirtual 164, 3) := dk_182 0 164 (dk_at dksX2_agoOne_1 11 rfl rfl)
theorem dX2_agoOne_38 : decode cX2_agoOne 38 = .ok (.aload_n 0, 1) := dk_42 (dk_at dksX2_agoOne_1 14 rfl rfl)
theorem dX2_agoOne_39 : decode cX2_agoOne 39 = .ok (.invokevirtual 174, 3) := dk_182 0 174 (dk_at dksX2_agoOne_1 15 rfl rfl)
theorem dX2_agoOne_42 : decode cX2_agoOne 42 = .ok (.istore_n 2, 1) := dk_61 (dk_at dksX2_agoOne_1 18 rfl rfl)
theorem dX2_agoOne_43 : decode cX2_agoOne 43 = .ok (.iload_n 2, 1) := dk_28 (dk_at dksX2_agoOne_1 19 rfl rfl)
theorem dX2_agoOne_44 : decode cX2_agoOne 44 = .ok (.ifCond .ge 5, 3) := dk_156 0 5 (dk_at dksX2_agoOne_1 20 rfl rfl)
theorem dX2_agoOne_47 : decode cX2_agoOne 47 = .ok (.iconst 1, 1) := dk_4 (dk_at dksX2_agoOne_1 23 rfl rfl)
theorem dX2_agoOne_48 : decode cX2_agoOne 48 = .ok (.ireturn, 1) := dk_172 (dk_at dksX2_agoOne_2 0 rfl rfl)
theorem dX2_agoOne_49 : decode cX2_agoOne 49 = .ok (.iload_n 2, 1) := dk_28 (dk_at dksX2_agoOne_2 1 rfl rfl)
theorem dX2_agoOne_50 : decode cX2_agoOne 50 = .ok (.iconst 4, 1) := dk_7 (dk_at dksX2_agoOne_2 2 rfl rfl)
theorem dX2_agoOne_51 : decode cX2_agoOne 51 = .ok (.if_icmp .gt 11, 3) := dk_163 0 11 (dk_at dksX2_agoOne_2 3 rfl rfl)
theorem dX2_agoOne_54 : decode cX2_agoOne 54 = .ok (.aload_n 0, 1) := dk_42 (dk_at dksX2_agoOne_2 6 rfl rfl)
theorem dX2_agoOne_55 : decode cX2_agoOne 55 = .ok (.iload_n 2, 1) := dk_28 (dk_at dksX2_agoOne_2 7 rfl rfl)
theorem dX2_agoOne_56 : decode cX2_agoOne 56 = .ok (.invokevirtual 177, 3) := dk_182 0 177 (dk_at dksX2_agoOne_2 8 rfl rfl)
theorem dX2_agoOne_59 : decode cX2_agoOne 59 = .ok (.ifCond .ne 5, 3) := dk_154 0 5 (dk_at dksX2_agoOne_2 11 rfl rfl)
theorem dX2_agoOne_62 : decode cX2_agoOne 62 = .ok (.iconst 5, 1) := dk_8 (dk_at dksX2_agoOne_2 14 rfl rfl)
theorem dX2_agoOne_63 : decode cX2_agoOne 63 = .ok (.ireturn, 1) := dk_172 (dk_at dksX2_agoOne_2 15 rfl rfl)
theorem dX2_agoOne_64 : decode cX2_agoOne 64 = .ok (.aload_n 0, 1) := dk_42 (dk_at dksX2_agoOne_2 16 rfl rfl)
theorem dX2_agoOne_65 : decode cX2_agoOne 65 = .ok (.iconst 2, 1) := dk_5 (dk_at dksX2_agoOne_2 17 rfl rfl)
theorem dX2_agoOne_66 : decode cX2_agoOne 66 = .ok (.bipush 10, 2) := dk_16 10 (dk_at dksX2_agoOne_2 18 rfl rfl)
theorem dX2_agoOne_68 : decode cX2_agoOne 68 = .ok (.iload_n 1, 1) := dk_27 (dk_at dksX2_agoOne_2 20 rfl rfl)
theorem dX2_agoOne_69 : decode cX2_agoOne 69 = .ok (.imul, 1) := dk_104 (dk_at dksX2_agoOne_2 21 rfl rfl)
theorem dX2_agoOne_70 : decode cX2_agoOne 70 = .ok (.iload_n 2, 1) := dk_28 (dk_at dksX2_agoOne_2 22 rfl rfl)
theorem dX2_agoOne_71 : decode cX2_agoOne 71 = .ok (.iadd, 1) := dk_96 (dk_at dksX2_agoOne_2 23 rfl rfl)
theorem dX2_agoOne_72 : decode cX2_agoOne 72 = .ok (.invokevirtual 180, 3) := dk_182 0 180 (dk_at dksX2_agoOne_3 0 rfl rfl)
theorem dX2_agoOne_75 : decode cX2_agoOne 75 = .ok (.iconst 0, 1) := dk_3 (dk_at dksX2_agoOne_3 3 rfl rfl)
theorem dX2_agoOne_76 : decode cX2_agoOne 76 = .ok (.ireturn, 1) := dk_172 (dk_at dksX2_agoOne_3 4 rfl rfl)
abbrev cX2_opened : ByteArray := prog_19_method_35_code
def yX2_opened : MethodName := ⟨RX2, "opened", "(I)I"⟩
def dkwX2_opened_2 : List UInt8 := [172]
abbrev dktX2_opened_2 : List UInt8 := dkwX2_opened_2 ++ []
def dkwX2_opened_1 : List UInt8 := [180, 0, 29, 42, 180, 0, 144, 27, 79, 42, 89, 180, 0, 144, 4, 96, 181, 0, 144, 42, 182, 0, 164, 3]
abbrev dktX2_opened_1 : List UInt8 := dkwX2_opened_1 ++ dktX2_opened_2
def dkwX2_opened_0 : List UInt8 := [42, 180, 0, 154, 16, 8, 160, 0, 5, 6, 172, 42, 89, 180, 0, 154, 4, 96, 181, 0, 154, 42]
abbrev dktX2_opened_0 : List UInt8 := dkwX2_opened_0 ++ dktX2_opened_1
theorem dksX2_opened_0 : cX2_opened.data.toList.drop 0 = dktX2_opened_0 := by decide +kernel
theorem dksX2_opened_1 : cX2_opened.data.toList.drop 22 = dktX2_opened_1 := dk_seg dksX2_opened_0 22 rfl rfl
theorem dksX2_opened_2 : cX2_opened.data.toList.drop 46 = dktX2_opened_2 := dk_seg dksX2_opened_1 24 rfl rfl
theorem dX2_opened_0 : decode cX2_opened 0 = .ok (.aload_n 0, 1) := dk_42 (dk_at dksX2_opened_0 0 rfl rfl)
theorem dX2_opened_1 : decode cX2_opened 1 = .ok (.getfield 154, 3) := dk_180 0 154 (dk_at dksX2_opened_0 1 rfl rfl)
theorem dX2_opened_4 : decode cX2_opened 4 = .ok (.bipush 8, 2) := dk_16 8 (dk_at dksX2_opened_0 4 rfl rfl)
theorem dX2_opened_6 : decode cX2_opened 6 = .ok (.if_icmp .ne 5, 3) := dk_160 0 5 (dk_at dksX2_opened_0 6 rfl rfl)
theorem dX2_opened_9 : decode cX2_opened 9 = .ok (.iconst 3, 1) := dk_6 (dk_at dksX2_opened_0 9 rfl rfl)
theorem dX2_opened_10 : decode cX2_opened 10 = .ok (.ireturn, 1) := dk_172 (dk_at dksX2_opened_0 10 rfl rfl)
theorem dX2_opened_11 : decode cX2_opened 11 = .ok (.aload_n 0, 1) := dk_42 (dk_at dksX2_opened_0 11 rfl rfl)
theorem dX2_opened_12 : decode cX2_opened 12 = .ok (.dup, 1) := dk_89 (dk_at dksX2_opened_0 12 rfl rfl)
theorem dX2_opened_13 : decode cX2_opened 13 = .ok (.getfield 154, 3) := dk_180 0 154 (dk_at dksX2_opened_0 13 rfl rfl)
theorem dX2_opened_16 : decode cX2_opened 16 = .ok (.iconst 1, 1) := dk_4 (dk_at dksX2_opened_0 16 rfl rfl)
theorem dX2_opened_17 : decode cX2_opened 17 = .ok (.iadd, 1) := dk_96 (dk_at dksX2_opened_0 17 rfl rfl)
theorem dX2_opened_18 : decode cX2_opened 18 = .ok (.putfield 154, 3) := dk_181 0 154 (dk_at dksX2_opened_0 18 rfl rfl)
theorem dX2_opened_21 : decode cX2_opened 21 = .ok (.aload_n 0, 1) := dk_42 (dk_at dksX2_opened_0 21 rfl rfl)
theorem dX2_opened_22 : decode cX2_opened 22 = .ok (.getfield 29, 3) := dk_180 0 29 (dk_at dksX2_opened_1 0 rfl rfl)
theorem dX2_opened_25 : decode cX2_opened 25 = .ok (.aload_n 0, 1) := dk_42 (dk_at dksX2_opened_1 3 rfl rfl)
theorem dX2_opened_26 : decode cX2_opened 26 = .ok (.getfield 144, 3) := dk_180 0 144 (dk_at dksX2_opened_1 4 rfl rfl)
theorem dX2_opened_29 : decode cX2_opened 29 = .ok (.iload_n 1, 1) := dk_27 (dk_at dksX2_opened_1 7 rfl rfl)
theorem dX2_opened_30 : decode cX2_opened 30 = .ok (.iastore, 1) := dk_79 (dk_at dksX2_opened_1 8 rfl rfl)
theorem dX2_opened_31 : decode cX2_opened 31 = .ok (.aload_n 0, 1) := dk_42 (dk_at dksX2_opened_1 9 rfl rfl)
theorem dX2_opened_32 : decode cX2_opened 32 = .ok (.dup, 1) := dk_89 (dk_at dksX2_opened_1 10 rfl rfl)
theorem dX2_opened_33 : decode cX2_opened 33 = .ok (.getfield 144, 3) := dk_180 0 144 (dk_at dksX2_opened_1 11 rfl rfl)
theorem dX2_opened_36 : decode cX2_opened 36 = .ok (.iconst 1, 1) := dk_4 (dk_at dksX2_opened_1 14 rfl rfl)
theorem dX2_opened_37 : decode cX2_opened 37 = .ok (.iadd, 1) := dk_96 (dk_at dksX2_opened_1 15 rfl rfl)
theorem dX2_opened_38 : decode cX2_opened 38 = .ok (.putfield 144, 3) := dk_181 0 144 (dk_at dksX2_opened_1 16 rfl rfl)
theorem dX2_opened_41 : decode cX2_opened 41 = .ok (.aload_n 0, 1) := dk_42 (dk_at dksX2_opened_1 19 rfl rfl)
theorem dX2_opened_42 : decode cX2_opened 42 = .ok (.invokevirtual 164, 3) := dk_182 0 164 (dk_at dksX2_opened_1 20 rfl rfl)
theorem dX2_opened_45 : decode cX2_opened 45 = .ok (.iconst 0, 1) := dk_3 (dk_at dksX2_opened_1 23 rfl rfl)
theorem dX2_opened_46 : decode cX2_opened 46 = .ok (.ireturn, 1) := dk_172 (dk_at dksX2_opened_2 0 rfl rfl)
abbrev cX2_isAskAhead : ByteArray := prog_19_method_34_code
def yX2_isAskAhead : MethodName := ⟨RX2, "isAskAhead", "()Z"⟩
def dkwX2_isAskAhead_2 : List UInt8 := [153, 0, 7, 4, 167, 0, 4, 3, 172]
abbrev dktX2_isAskAhead_2 : List UInt8 := dkwX2_isAskAhead_2 ++ []
def dkwX2_isAskAhead_1 : List UInt8 := [159, 0, 25, 42, 180, 0, 29, 42, 180, 0, 144, 4, 100, 46, 184, 0, 147, 4, 6, 184, 0, 71]
abbrev dktX2_isAskAhead_1 : List UInt8 := dkwX2_isAskAhead_1 ++ dktX2_isAskAhead_2
def dkwX2_isAskAhead_0 : List UInt8 := [42, 182, 0, 161, 16, 41, 160, 0, 45, 42, 180, 0, 29, 42, 180, 0, 144, 4, 100, 46, 16, 41]
abbrev dktX2_isAskAhead_0 : List UInt8 := dkwX2_isAskAhead_0 ++ dktX2_isAskAhead_1
theorem dksX2_isAskAhead_0 : cX2_isAskAhead.data.toList.drop 0 = dktX2_isAskAhead_0 := by decide +kernel
theorem dksX2_isAskAhead_1 : cX2_isAskAhead.data.toList.drop 22 = dktX2_isAskAhead_1 := dk_seg dksX2_isAskAhead_0 22 rfl rfl
theorem dksX2_isAskAhead_2 : cX2_isAskAhead.data.toList.drop 44 = dktX2_isAskAhead_2 := dk_seg dksX2_isAskAhead_1 22 rfl rfl
theorem dX2_isAskAhead_0 : decode cX2_isAskAhead 0 = .ok (.aload_n 0, 1) := dk_42 (dk_at dksX2_isAskAhead_0 0 rfl rfl)
theorem dX2_isAskAhead_1 : decode cX2_isAskAhead 1 = .ok (.invokevirtual 161, 3) := dk_182 0 161 (dk_at dksX2_isAskAhead_0 1 rfl rfl)
theorem dX2_isAskAhead_4 : decode cX2_isAskAhead 4 = .ok (.bipush 41, 2) := dk_16 41 (dk_at dksX2_isAskAhead_0 4 rfl rfl)
theorem dX2_isAskAhead_6 : decode cX2_isAskAhead 6 = .ok (.if_icmp .ne 45, 3) := dk_160 0 45 (dk_at dksX2_isAskAhead_0 6 rfl rfl)
theorem dX2_isAskAhead_9 : decode cX2_isAskAhead 9 = .ok (.aload_n 0, 1) := dk_42 (dk_at dksX2_isAskAhead_0 9 rfl rfl)
theorem dX2_isAskAhead_10 : decode cX2_isAskAhead 10 = .ok (.getfield 29, 3) := dk_180 0 29 (dk_at dksX2_isAskAhead_0 10 rfl rfl)
theorem dX2_isAskAhead_13 : decode cX2_isAskAhead 13 = .ok (.aload_n 0, 1) := dk_42 (dk_at dksX2_isAskAhead_0 13 rfl rfl)
theorem dX2_isAskAhead_14 : decode cX2_isAskAhead 14 = .ok (.getfield 144, 3) := dk_180 0 144 (dk_at dksX2_isAskAhead_0 14 rfl rfl)
theorem dX2_isAskAhead_17 : decode cX2_isAskAhead 17 = .ok (.iconst 1, 1) := dk_4 (dk_at dksX2_isAskAhead_0 17 rfl rfl)
theorem dX2_isAskAhead_18 : decode cX2_isAskAhead 18 = .ok (.isub, 1) := dk_100 (dk_at dksX2_isAskAhead_0 18 rfl rfl)
theorem dX2_isAskAhead_19 : decode cX2_isAskAhead 19 = .ok (.iaload, 1) := dk_46 (dk_at dksX2_isAskAhead_0 19 rfl rfl)
theorem dX2_isAskAhead_20 : decode cX2_isAskAhead 20 = .ok (.bipush 41, 2) := dk_16 41 (dk_at dksX2_isAskAhead_0 20 rfl rfl)
theorem dX2_isAskAhead_22 : decode cX2_isAskAhead 22 = .ok (.if_icmp .eq 25, 3) := dk_159 0 25 (dk_at dksX2_isAskAhead_1 0 rfl rfl)
theorem dX2_isAskAhead_25 : decode cX2_isAskAhead 25 = .ok (.aload_n 0, 1) := dk_42 (dk_at dksX2_isAskAhead_1 3 rfl rfl)
theorem dX2_isAskAhead_26 : decode cX2_isAskAhead 26 = .ok (.getfield 29, 3) := dk_180 0 29 (dk_at dksX2_isAskAhead_1 4 rfl rfl)
theorem dX2_isAskAhead_29 : decode cX2_isAskAhead 29 = .ok (.aload_n 0, 1) := dk_42 (dk_at dksX2_isAskAhead_1 7 rfl rfl)
theorem dX2_isAskAhead_30 : decode cX2_isAskAhead 30 = .ok (.getfield 144, 3) := dk_180 0 144 (dk_at dksX2_isAskAhead_1 8 rfl rfl)
theorem dX2_isAskAhead_33 : decode cX2_isAskAhead 33 = .ok (.iconst 1, 1) := dk_4 (dk_at dksX2_isAskAhead_1 11 rfl rfl)
theorem dX2_isAskAhead_34 : decode cX2_isAskAhead 34 = .ok (.isub, 1) := dk_100 (dk_at dksX2_isAskAhead_1 12 rfl rfl)
theorem dX2_isAskAhead_35 : decode cX2_isAskAhead 35 = .ok (.iaload, 1) := dk_46 (dk_at dksX2_isAskAhead_1 13 rfl rfl)
theorem dX2_isAskAhead_36 : decode cX2_isAskAhead 36 = .ok (.invokestatic 147, 3) := dk_184 0 147 (dk_at dksX2_isAskAhead_1 14 rfl rfl)
theorem dX2_isAskAhead_39 : decode cX2_isAskAhead 39 = .ok (.iconst 1, 1) := dk_4 (dk_at dksX2_isAskAhead_1 17 rfl rfl)
theorem dX2_isAskAhead_40 : decode cX2_isAskAhead 40 = .ok (.iconst 3, 1) := dk_6 (dk_at dksX2_isAskAhead_1 18 rfl rfl)
theorem dX2_isAskAhead_41 : decode cX2_isAskAhead 41 = .ok (.invokestatic 71, 3) := dk_184 0 71 (dk_at dksX2_isAskAhead_1 19 rfl rfl)
theorem dX2_isAskAhead_44 : decode cX2_isAskAhead 44 = .ok (.ifCond .eq 7, 3) := dk_153 0 7 (dk_at dksX2_isAskAhead_2 0 rfl rfl)
theorem dX2_isAskAhead_47 : decode cX2_isAskAhead 47 = .ok (.iconst 1, 1) := dk_4 (dk_at dksX2_isAskAhead_2 3 rfl rfl)
theorem dX2_isAskAhead_48 : decode cX2_isAskAhead 48 = .ok (.goto 4, 3) := dk_167 0 4 (dk_at dksX2_isAskAhead_2 4 rfl rfl)
theorem dX2_isAskAhead_51 : decode cX2_isAskAhead 51 = .ok (.iconst 0, 1) := dk_3 (dk_at dksX2_isAskAhead_2 7 rfl rfl)
theorem dX2_isAskAhead_52 : decode cX2_isAskAhead 52 = .ok (.ireturn, 1) := dk_172 (dk_at dksX2_isAskAhead_2 8 rfl rfl)
abbrev cX2_fault : ByteArray := prog_19_method_54_code
def yX2_fault : MethodName := ⟨RX2, "fault", "(I)I"⟩
def dkwX2_fault_1 : List UInt8 := [172]
abbrev dktX2_fault_1 : List UInt8 := dkwX2_fault_1 ++ []
def dkwX2_fault_0 : List UInt8 := [27, 154, 0, 10, 42, 180, 0, 22, 167, 0, 16, 27, 4, 160, 0, 10, 42, 180, 0, 26, 167, 0, 4, 2]
abbrev dktX2_fault_0 : List UInt8 := dkwX2_fault_0 ++ dktX2_fault_1
theorem dksX2_fault_0 : cX2_fault.data.toList.drop 0 = dktX2_fault_0 := by decide +kernel
theorem dksX2_fault_1 : cX2_fault.data.toList.drop 24 = dktX2_fault_1 := dk_seg dksX2_fault_0 24 rfl rfl
theorem dX2_fault_0 : decode cX2_fault 0 = .ok (.iload_n 1, 1) := dk_27 (dk_at dksX2_fault_0 0 rfl rfl)
theorem dX2_fault_1 : decode cX2_fault 1 = .ok (.ifCond .ne 10, 3) := dk_154 0 10 (dk_at dksX2_fault_0 1 rfl rfl)
theorem dX2_fault_4 : decode cX2_fault 4 = .ok (.aload_n 0, 1) := dk_42 (dk_at dksX2_fault_0 4 rfl rfl)
theorem dX2_fault_5 : decode cX2_fault 5 = .ok (.getfield 22, 3) := dk_180 0 22 (dk_at dksX2_fault_0 5 rfl rfl)
theorem dX2_fault_8 : decode cX2_fault 8 = .ok (.goto 16, 3) := dk_167 0 16 (dk_at dksX2_fault_0 8 rfl rfl)
theorem dX2_fault_11 : decode cX2_fault 11 = .ok (.iload_n 1, 1) := dk_27 (dk_at dksX2_fault_0 11 rfl rfl)
theorem dX2_fault_12 : decode cX2_fault 12 = .ok (.iconst 1, 1) := dk_4 (dk_at dksX2_fault_0 12 rfl rfl)
theorem dX2_fault_13 : decode cX2_fault 13 = .ok (.if_icmp .ne 10, 3) := dk_160 0 10 (dk_at dksX2_fault_0 13 rfl rfl)
theorem dX2_fault_16 : decode cX2_fault 16 = .ok (.aload_n 0, 1) := dk_42 (dk_at dksX2_fault_0 16 rfl rfl)
theorem dX2_fault_17 : decode cX2_fault 17 = .ok (.getfield 26, 3) := dk_180 0 26 (dk_at dksX2_fault_0 17 rfl rfl)
theorem dX2_fault_20 : decode cX2_fault 20 = .ok (.goto 4, 3) := dk_167 0 4 (dk_at dksX2_fault_0 20 rfl rfl)
theorem dX2_fault_23 : decode cX2_fault 23 = .ok (.iconst (-1), 1) := dk_2 (dk_at dksX2_fault_0 23 rfl rfl)
theorem dX2_fault_24 : decode cX2_fault 24 = .ok (.ireturn, 1) := dk_172 (dk_at dksX2_fault_1 0 rfl rfl)
abbrev cX2_by : ByteArray := prog_19_method_55_code
def yX2_by : MethodName := ⟨RX2, "by", "(I)Z"⟩
def dkwX2_by_1 : List UInt8 := [79, 4, 172]
abbrev dktX2_by_1 : List UInt8 := dkwX2_by_1 ++ []
def dkwX2_by_0 : List UInt8 := [27, 2, 42, 180, 0, 7, 6, 46, 4, 100, 184, 0, 71, 154, 0, 5, 3, 172, 42, 180, 0, 7, 7, 27]
abbrev dktX2_by_0 : List UInt8 := dkwX2_by_0 ++ dktX2_by_1
theorem dksX2_by_0 : cX2_by.data.toList.drop 0 = dktX2_by_0 := by decide +kernel
theorem dksX2_by_1 : cX2_by.data.toList.drop 24 = dktX2_by_1 := dk_seg dksX2_by_0 24 rfl rfl
theorem dX2_by_0 : decode cX2_by 0 = .ok (.iload_n 1, 1) := dk_27 (dk_at dksX2_by_0 0 rfl rfl)
theorem dX2_by_1 : decode cX2_by 1 = .ok (.iconst (-1), 1) := dk_2 (dk_at dksX2_by_0 1 rfl rfl)
theorem dX2_by_2 : decode cX2_by 2 = .ok (.aload_n 0, 1) := dk_42 (dk_at dksX2_by_0 2 rfl rfl)
theorem dX2_by_3 : decode cX2_by 3 = .ok (.getfield 7, 3) := dk_180 0 7 (dk_at dksX2_by_0 3 rfl rfl)
theorem dX2_by_6 : decode cX2_by 6 = .ok (.iconst 3, 1) := dk_6 (dk_at dksX2_by_0 6 rfl rfl)
theorem dX2_by_7 : decode cX2_by 7 = .ok (.iaload, 1) := dk_46 (dk_at dksX2_by_0 7 rfl rfl)
theorem dX2_by_8 : decode cX2_by 8 = .ok (.iconst 1, 1) := dk_4 (dk_at dksX2_by_0 8 rfl rfl)
theorem dX2_by_9 : decode cX2_by 9 = .ok (.isub, 1) := dk_100 (dk_at dksX2_by_0 9 rfl rfl)
theorem dX2_by_10 : decode cX2_by 10 = .ok (.invokestatic 71, 3) := dk_184 0 71 (dk_at dksX2_by_0 10 rfl rfl)
theorem dX2_by_13 : decode cX2_by 13 = .ok (.ifCond .ne 5, 3) := dk_154 0 5 (dk_at dksX2_by_0 13 rfl rfl)
theorem dX2_by_16 : decode cX2_by 16 = .ok (.iconst 0, 1) := dk_3 (dk_at dksX2_by_0 16 rfl rfl)
theorem dX2_by_17 : decode cX2_by 17 = .ok (.ireturn, 1) := dk_172 (dk_at dksX2_by_0 17 rfl rfl)
theorem dX2_by_18 : decode cX2_by 18 = .ok (.aload_n 0, 1) := dk_42 (dk_at dksX2_by_0 18 rfl rfl)
theorem dX2_by_19 : decode cX2_by 19 = .ok (.getfield 7, 3) := dk_180 0 7 (dk_at dksX2_by_0 19 rfl rfl)
theorem dX2_by_22 : decode cX2_by 22 = .ok (.iconst 4, 1) := dk_7 (dk_at dksX2_by_0 22 rfl rfl)
theorem dX2_by_23 : decode cX2_by 23 = .ok (.iload_n 1, 1) := dk_27 (dk_at dksX2_by_0 23 rfl rfl)
theorem dX2_by_24 : decode cX2_by 24 = .ok (.iastore, 1) := dk_79 (dk_at dksX2_by_1 0 rfl rfl)
theorem dX2_by_25 : decode cX2_by 25 = .ok (.iconst 1, 1) := dk_4 (dk_at dksX2_by_1 1 rfl rfl)
theorem dX2_by_26 : decode cX2_by 26 = .ok (.ireturn, 1) := dk_172 (dk_at dksX2_by_1 2 rfl rfl)
abbrev cX2_undo : ByteArray := prog_19_method_76_code
def yX2_undo : MethodName := ⟨RX2, "undo", "()I"⟩
def dkwX2_undo_6 : List UInt8 := [180, 0, 7, 8, 46, 172]
abbrev dktX2_undo_6 : List UInt8 := dkwX2_undo_6 ++ []
def dkwX2_undo_5 : List UInt8 := [96, 8, 96, 42, 180, 0, 7, 27, 16, 12, 96, 46, 28, 122, 4, 126, 79, 132, 2, 1, 167, 255, 216, 42]
abbrev dktX2_undo_5 : List UInt8 := dkwX2_undo_5 ++ dktX2_undo_6
def dkwX2_undo_4 : List UInt8 := [46, 79, 3, 61, 28, 42, 180, 0, 7, 3, 46, 162, 0, 36, 42, 180, 0, 7, 16, 20, 16, 6, 28, 104]
abbrev dktX2_undo_4 : List UInt8 := dkwX2_undo_4 ++ dktX2_undo_5
def dkwX2_undo_3 : List UInt8 := [42, 180, 0, 7, 27, 16, 10, 96, 46, 79, 42, 180, 0, 7, 16, 7, 42, 180, 0, 7, 27, 16, 11, 96]
abbrev dktX2_undo_3 : List UInt8 := dkwX2_undo_3 ++ dktX2_undo_4
def dkwX2_undo_2 : List UInt8 := [16, 8, 28, 96, 42, 180, 0, 7, 27, 28, 96, 46, 79, 132, 2, 1, 167, 255, 230, 42, 180, 0, 7, 5]
abbrev dktX2_undo_2 : List UInt8 := dkwX2_undo_2 ++ dktX2_undo_3
def dkwX2_undo_1 : List UInt8 := [16, 13, 42, 180, 0, 7, 8, 46, 104, 96, 60, 3, 61, 28, 16, 10, 162, 0, 26, 42, 180, 0, 7]
abbrev dktX2_undo_1 : List UInt8 := dkwX2_undo_1 ++ dktX2_undo_2
def dkwX2_undo_0 : List UInt8 := [42, 180, 0, 7, 8, 46, 154, 0, 5, 2, 172, 42, 180, 0, 7, 8, 92, 46, 4, 100, 79, 16, 84]
abbrev dktX2_undo_0 : List UInt8 := dkwX2_undo_0 ++ dktX2_undo_1
theorem dksX2_undo_0 : cX2_undo.data.toList.drop 0 = dktX2_undo_0 := by decide +kernel
theorem dksX2_undo_1 : cX2_undo.data.toList.drop 23 = dktX2_undo_1 := dk_seg dksX2_undo_0 23 rfl rfl
theorem dksX2_undo_2 : cX2_undo.data.toList.drop 46 = dktX2_undo_2 := dk_seg dksX2_undo_1 23 rfl rfl
theorem dksX2_undo_3 : cX2_undo.data.toList.drop 70 = dktX2_undo_3 := dk_seg dksX2_undo_2 24 rfl rfl
theorem dksX2_undo_4 : cX2_undo.data.toList.drop 94 = dktX2_undo_4 := dk_seg dksX2_undo_3 24 rfl rfl
theorem dksX2_undo_5 : cX2_undo.data.toList.drop 118 = dktX2_undo_5 := dk_seg dksX2_undo_4 24 rfl rfl
theorem dksX2_undo_6 : cX2_undo.data.toList.drop 142 = dktX2_undo_6 := dk_seg dksX2_undo_5 24 rfl rfl
theorem dX2_undo_0 : decode cX2_undo 0 = .ok (.aload_n 0, 1) := dk_42 (dk_at dksX2_undo_0 0 rfl rfl)
theorem dX2_undo_1 : decode cX2_undo 1 = .ok (.getfield 7, 3) := dk_180 0 7 (dk_at dksX2_undo_0 1 rfl rfl)
theorem dX2_undo_4 : decode cX2_undo 4 = .ok (.iconst 5, 1) := dk_8 (dk_at dksX2_undo_0 4 rfl rfl)
theorem dX2_undo_5 : decode cX2_undo 5 = .ok (.iaload, 1) := dk_46 (dk_at dksX2_undo_0 5 rfl rfl)
theorem dX2_undo_6 : decode cX2_undo 6 = .ok (.ifCond .ne 5, 3) := dk_154 0 5 (dk_at dksX2_undo_0 6 rfl rfl)
theorem dX2_undo_9 : decode cX2_undo 9 = .ok (.iconst (-1), 1) := dk_2 (dk_at dksX2_undo_0 9 rfl rfl)
theorem dX2_undo_10 : decode cX2_undo 10 = .ok (.ireturn, 1) := dk_172 (dk_at dksX2_undo_0 10 rfl rfl)
theorem dX2_undo_11 : decode cX2_undo 11 = .ok (.aload_n 0, 1) := dk_42 (dk_at dksX2_undo_0 11 rfl rfl)
theorem dX2_undo_12 : decode cX2_undo 12 = .ok (.getfield 7, 3) := dk_180 0 7 (dk_at dksX2_undo_0 12 rfl rfl)
theorem dX2_undo_15 : decode cX2_undo 15 = .ok (.iconst 5, 1) := dk_8 (dk_at dksX2_undo_0 15 rfl rfl)
theorem dX2_undo_16 : decode cX2_undo 16 = .ok (.dup2, 1) := dk_92 (dk_at dksX2_undo_0 16 rfl rfl)
theorem dX2_undo_17 : decode cX2_undo 17 = .ok (.iaload, 1) := dk_46 (dk_at dksX2_undo_0 17 rfl rfl)
theorem dX2_undo_18 : decode cX2_undo 18 = .ok (.iconst 1, 1) := dk_4 (dk_at dksX2_undo_0 18 rfl rfl)
theorem dX2_undo_19 : decode cX2_undo 19 = .ok (.isub, 1) := dk_100 (dk_at dksX2_undo_0 19 rfl rfl)
theorem dX2_undo_20 : decode cX2_undo 20 = .ok (.iastore, 1) := dk_79 (dk_at dksX2_undo_0 20 rfl rfl)
theorem dX2_undo_21 : decode cX2_undo 21 = .ok (.bipush 84, 2) := dk_16 84 (dk_at dksX2_undo_0 21 rfl rfl)
theorem dX2_undo_23 : decode cX2_undo 23 = .ok (.bipush 13, 2) := dk_16 13 (dk_at dksX2_undo_1 0 rfl rfl)
theorem dX2_undo_25 : decode cX2_undo 25 = .ok (.aload_n 0, 1) := dk_42 (dk_at dksX2_undo_1 2 rfl rfl)
theorem dX2_undo_26 : decode cX2_undo 26 = .ok (.getfield 7, 3) := dk_180 0 7 (dk_at dksX2_undo_1 3 rfl rfl)
theorem dX2_undo_29 : decode cX2_undo 29 = .ok (.iconst 5, 1) := dk_8 (dk_at dksX2_undo_1 6 rfl rfl)
theorem dX2_undo_30 : decode cX2_undo 30 = .ok (.iaload, 1) := dk_46 (dk_at dksX2_undo_1 7 rfl rfl)
theorem dX2_undo_31 : decode cX2_undo 31 = .ok (.imul, 1) := dk_104 (dk_at dksX2_undo_1 8 rfl rfl)
theorem dX2_undo_32 : decode cX2_undo 32 = .ok (.iadd, 1) := dk_96 (dk_at dksX2_undo_1 9 rfl rfl)
theorem dX2_undo_33 : decode cX2_undo 33 = .ok (.istore_n 1, 1) := dk_60 (dk_at dksX2_undo_1 10 rfl rfl)
theorem dX2_undo_34 : decode cX2_undo 34 = .ok (.iconst 0, 1) := dk_3 (dk_at dksX2_undo_1 11 rfl rfl)
theorem dX2_undo_35 : decode cX2_undo 35 = .ok (.istore_n 2, 1) := dk_61 (dk_at dksX2_undo_1 12 rfl rfl)
theorem dX2_undo_36 : decode cX2_undo 36 = .ok (.iload_n 2, 1) := dk_28 (dk_at dksX2_undo_1 13 rfl rfl)
theorem dX2_undo_37 : decode cX2_undo 37 = .ok (.bipush 10, 2) := dk_16 10 (dk_at dksX2_undo_1 14 rfl rfl)
theorem dX2_undo_39 : decode cX2_undo 39 = .ok (.if_icmp .ge 26, 3) := dk_162 0 26 (dk_at dksX2_undo_1 16 rfl rfl)
theorem dX2_undo_42 : decode cX2_undo 42 = .ok (.aload_n 0, 1) := dk_42 (dk_at dksX2_undo_1 19 rfl rfl)
theorem dX2_undo_43 : decode cX2_undo 43 = .ok (.getfield 7, 3) := dk_180 0 7 (dk_at dksX2_undo_1 20 rfl rfl)
theorem dX2_undo_46 : decode cX2_undo 46 = .ok (.bipush 8, 2) := dk_16 8 (dk_at dksX2_undo_2 0 rfl rfl)
theorem dX2_undo_48 : decode cX2_undo 48 = .ok (.iload_n 2, 1) := dk_28 (dk_at dksX2_undo_2 2 rfl rfl)
theorem dX2_undo_49 : decode cX2_undo 49 = .ok (.iadd, 1) := dk_96 (dk_at dksX2_undo_2 3 rfl rfl)
theorem dX2_undo_50 : decode cX2_undo 50 = .ok (.aload_n 0, 1) := dk_42 (dk_at dksX2_undo_2 4 rfl rfl)
theorem dX2_undo_51 : decode cX2_undo 51 = .ok (.getfield 7, 3) := dk_180 0 7 (dk_at dksX2_undo_2 5 rfl rfl)
theorem dX2_undo_54 : decode cX2_undo 54 = .ok (.iload_n 1, 1) := dk_27 (dk_at dksX2_undo_2 8 rfl rfl)
theorem dX2_undo_55 : decode cX2_undo 55 = .ok (.iload_n 2, 1) := dk_28 (dk_at dksX2_undo_2 9 rfl rfl)
theorem dX2_undo_56 : decode cX2_undo 56 = .ok (.iadd, 1) := dk_96 (dk_at dksX2_undo_2 10 rfl rfl)
theorem dX2_undo_57 : decode cX2_undo 57 = .ok (.iaload, 1) := dk_46 (dk_at dksX2_undo_2 11 rfl rfl)
theorem dX2_undo_58 : decode cX2_undo 58 = .ok (.iastore, 1) := dk_79 (dk_at dksX2_undo_2 12 rfl rfl)
theorem dX2_undo_59 : decode cX2_undo 59 = .ok (.iinc 2 1, 3) := dk_132 2 1 (dk_at dksX2_undo_2 13 rfl rfl)
theorem dX2_undo_62 : decode cX2_undo 62 = .ok (.goto (-26), 3) := dk_167 255 230 (dk_at dksX2_undo_2 16 rfl rfl)
theorem dX2_undo_65 : decode cX2_undo 65 = .ok (.aload_n 0, 1) := dk_42 (dk_at dksX2_undo_2 19 rfl rfl)
theorem dX2_undo_66 : decode cX2_undo 66 = .ok (.getfield 7, 3) := dk_180 0 7 (dk_at dksX2_undo_2 20 rfl rfl)
theorem dX2_undo_69 : decode cX2_undo 69 = .ok (.iconst 2, 1) := dk_5 (dk_at dksX2_undo_2 23 rfl rfl)
theorem dX2_undo_70 : decode cX2_undo 70 = .ok (.aload_n 0, 1) := dk_42 (dk_at dksX2_undo_3 0 rfl rfl)
theorem dX2_undo_71 : decode cX2_undo 71 = .ok (.getfield 7, 3) := dk_180 0 7 (dk_at dksX2_undo_3 1 rfl rfl)
theorem dX2_undo_74 : decode cX2_undo 74 = .ok (.iload_n 1, 1) := dk_27 (dk_at dksX2_undo_3 4 rfl rfl)
theorem dX2_undo_75 : decode cX2_undo 75 = .ok (.bipush 10, 2) := dk_16 10 (dk_at dksX2_undo_3 5 rfl rfl)
theorem dX2_undo_77 : decode cX2_undo 77 = .ok (.iadd, 1) := dk_96 (dk_at dksX2_undo_3 7 rfl rfl)
theorem dX2_undo_78 : decode cX2_undo 78 = .ok (.iaload, 1) := dk_46 (dk_at dksX2_undo_3 8 rfl rfl)
theorem dX2_undo_79 : decode cX2_undo 79 = .ok (.iastore, 1) := dk_79 (dk_at dksX2_undo_3 9 rfl rfl)
theorem dX2_undo_80 : decode cX2_undo 80 = .ok (.aload_n 0, 1) := dk_42 (dk_at dksX2_undo_3 10 rfl rfl)
theorem dX2_undo_81 : decode cX2_undo 81 = .ok (.getfield 7, 3) := dk_180 0 7 (dk_at dksX2_undo_3 11 rfl rfl)
theorem dX2_undo_84 : decode cX2_undo 84 = .ok (.bipush 7, 2) := dk_16 7 (dk_at dksX2_undo_3 14 rfl rfl)
theorem dX2_undo_86 : decode cX2_undo 86 = .ok (.aload_n 0, 1) := dk_42 (dk_at dksX2_undo_3 16 rfl rfl)
theorem dX2_undo_87 : decode cX2_undo 87 = .ok (.getfield 7, 3) := dk_180 0 7 (dk_at dksX2_undo_3 17 rfl rfl)
theorem dX2_undo_90 : decode cX2_undo 90 = .ok (.iload_n 1, 1) := dk_27 (dk_at dksX2_undo_3 20 rfl rfl)
theorem dX2_undo_91 : decode cX2_undo 91 = .ok (.bipush 11, 2) := dk_16 11 (dk_at dksX2_undo_3 21 rfl rfl)
theorem dX2_undo_93 : decode cX2_undo 93 = .ok (.iadd, 1) := dk_96 (dk_at dksX2_undo_3 23 rfl rfl)
theorem dX2_undo_94 : decode cX2_undo 94 = .ok (.iaload, 1) := dk_46 (dk_at dksX2_undo_4 0 rfl rfl)
theorem dX2_undo_95 : decode cX2_undo 95 = .ok (.iastore, 1) := dk_79 (dk_at dksX2_undo_4 1 rfl rfl)
theorem dX2_undo_96 : decode cX2_undo 96 = .ok (.iconst 0, 1) := dk_3 (dk_at dksX2_undo_4 2 rfl rfl)
theorem dX2_undo_97 : decode cX2_undo 97 = .ok (.istore_n 2, 1) := dk_61 (dk_at dksX2_undo_4 3 rfl rfl)
theorem dX2_undo_98 : decode cX2_undo 98 = .ok (.iload_n 2, 1) := dk_28 (dk_at dksX2_undo_4 4 rfl rfl)
theorem dX2_undo_99 : decode cX2_undo 99 = .ok (.aload_n 0, 1) := dk_42 (dk_at dksX2_undo_4 5 rfl rfl)
theorem dX2_undo_100 : decode cX2_undo 100 = .ok (.getfield 7, 3) := dk_180 0 7 (dk_at dksX2_undo_4 6 rfl rfl)
theorem dX2_undo_103 : decode cX2_undo 103 = .ok (.iconst 0, 1) := dk_3 (dk_at dksX2_undo_4 9 rfl rfl)
theorem dX2_undo_104 : decode cX2_undo 104 = .ok (.iaload, 1) := dk_46 (dk_at dksX2_undo_4 10 rfl rfl)
theorem dX2_undo_105 : decode cX2_undo 105 = .ok (.if_icmp .ge 36, 3) := dk_162 0 36 (dk_at dksX2_undo_4 11 rfl rfl)
theorem dX2_undo_108 : decode cX2_undo 108 = .ok (.aload_n 0, 1) := dk_42 (dk_at dksX2_undo_4 14 rfl rfl)
theorem dX2_undo_109 : decode cX2_undo 109 = .ok (.getfield 7, 3) := dk_180 0 7 (dk_at dksX2_undo_4 15 rfl rfl)
theorem dX2_undo_112 : decode cX2_undo 112 = .ok (.bipush 20, 2) := dk_16 20 (dk_at dksX2_undo_4 18 rfl rfl)
theorem dX2_undo_114 : decode cX2_undo 114 = .ok (.bipush 6, 2) := dk_16 6 (dk_at dksX2_undo_4 20 rfl rfl)
theorem dX2_undo_116 : decode cX2_undo 116 = .ok (.iload_n 2, 1) := dk_28 (dk_at dksX2_undo_4 22 rfl rfl)
theorem dX2_undo_117 : decode cX2_undo 117 = .ok (.imul, 1) := dk_104 (dk_at dksX2_undo_4 23 rfl rfl)
theorem dX2_undo_118 : decode cX2_undo 118 = .ok (.iadd, 1) := dk_96 (dk_at dksX2_undo_5 0 rfl rfl)
theorem dX2_undo_119 : decode cX2_undo 119 = .ok (.iconst 5, 1) := dk_8 (dk_at dksX2_undo_5 1 rfl rfl)
theorem dX2_undo_120 : decode cX2_undo 120 = .ok (.iadd, 1) := dk_96 (dk_at dksX2_undo_5 2 rfl rfl)
theorem dX2_undo_121 : decode cX2_undo 121 = .ok (.aload_n 0, 1) := dk_42 (dk_at dksX2_undo_5 3 rfl rfl)
theorem dX2_undo_122 : decode cX2_undo 122 = .ok (.getfield 7, 3) := dk_180 0 7 (dk_at dksX2_undo_5 4 rfl rfl)
theorem dX2_undo_125 : decode cX2_undo 125 = .ok (.iload_n 1, 1) := dk_27 (dk_at dksX2_undo_5 7 rfl rfl)
theorem dX2_undo_126 : decode cX2_undo 126 = .ok (.bipush 12, 2) := dk_16 12 (dk_at dksX2_undo_5 8 rfl rfl)
theorem dX2_undo_128 : decode cX2_undo 128 = .ok (.iadd, 1) := dk_96 (dk_at dksX2_undo_5 10 rfl rfl)
theorem dX2_undo_129 : decode cX2_undo 129 = .ok (.iaload, 1) := dk_46 (dk_at dksX2_undo_5 11 rfl rfl)
theorem dX2_undo_130 : decode cX2_undo 130 = .ok (.iload_n 2, 1) := dk_28 (dk_at dksX2_undo_5 12 rfl rfl)
theorem dX2_undo_131 : decode cX2_undo 131 = .ok (.ishr, 1) := dk_122 (dk_at dksX2_undo_5 13 rfl rfl)
theorem dX2_undo_132 : decode cX2_undo 132 = .ok (.iconst 1, 1) := dk_4 (dk_at dksX2_undo_5 14 rfl rfl)
theorem dX2_undo_133 : decode cX2_undo 133 = .ok (.iand, 1) := dk_126 (dk_at dksX2_undo_5 15 rfl rfl)
theorem dX2_undo_134 : decode cX2_undo 134 = .ok (.iastore, 1) := dk_79 (dk_at dksX2_undo_5 16 rfl rfl)
theorem dX2_undo_135 : decode cX2_undo 135 = .ok (.iinc 2 1, 3) := dk_132 2 1 (dk_at dksX2_undo_5 17 rfl rfl)
theorem dX2_undo_138 : decode cX2_undo 138 = .ok (.goto (-40), 3) := dk_167 255 216 (dk_at dksX2_undo_5 20 rfl rfl)
theorem dX2_undo_141 : decode cX2_undo 141 = .ok (.aload_n 0, 1) := dk_42 (dk_at dksX2_undo_5 23 rfl rfl)
theorem dX2_undo_142 : decode cX2_undo 142 = .ok (.getfield 7, 3) := dk_180 0 7 (dk_at dksX2_undo_6 0 rfl rfl)
theorem dX2_undo_145 : decode cX2_undo 145 = .ok (.iconst 5, 1) := dk_8 (dk_at dksX2_undo_6 3 rfl rfl)
theorem dX2_undo_146 : decode cX2_undo 146 = .ok (.iaload, 1) := dk_46 (dk_at dksX2_undo_6 4 rfl rfl)
theorem dX2_undo_147 : decode cX2_undo 147 = .ok (.ireturn, 1) := dk_172 (dk_at dksX2_undo_6 5 rfl rfl)
abbrev cX2_move : ByteArray := prog_19_method_78_code
def yX2_move : MethodName := ⟨RX2, "move", "(I)I"⟩
def dkwX2_move_1 : List UInt8 := [167, 0, 4, 2, 172]
abbrev dktX2_move_1 : List UInt8 := dkwX2_move_1 ++ []
def dkwX2_move_0 : List UInt8 := [27, 2, 4, 184, 0, 71, 153, 0, 21, 42, 27, 182, 1, 79, 153, 0, 13, 42, 180, 0, 7, 16, 8, 46]
abbrev dktX2_move_0 : List UInt8 := dkwX2_move_0 ++ dktX2_move_1
theorem dksX2_move_0 : cX2_move.data.toList.drop 0 = dktX2_move_0 := by decide +kernel
theorem dksX2_move_1 : cX2_move.data.toList.drop 24 = dktX2_move_1 := dk_seg dksX2_move_0 24 rfl rfl
theorem dX2_move_0 : decode cX2_move 0 = .ok (.iload_n 1, 1) := dk_27 (dk_at dksX2_move_0 0 rfl rfl)
theorem dX2_move_1 : decode cX2_move 1 = .ok (.iconst (-1), 1) := dk_2 (dk_at dksX2_move_0 1 rfl rfl)
theorem dX2_move_2 : decode cX2_move 2 = .ok (.iconst 1, 1) := dk_4 (dk_at dksX2_move_0 2 rfl rfl)
theorem dX2_move_3 : decode cX2_move 3 = .ok (.invokestatic 71, 3) := dk_184 0 71 (dk_at dksX2_move_0 3 rfl rfl)
theorem dX2_move_6 : decode cX2_move 6 = .ok (.ifCond .eq 21, 3) := dk_153 0 21 (dk_at dksX2_move_0 6 rfl rfl)
theorem dX2_move_9 : decode cX2_move 9 = .ok (.aload_n 0, 1) := dk_42 (dk_at dksX2_move_0 9 rfl rfl)
theorem dX2_move_10 : decode cX2_move 10 = .ok (.iload_n 1, 1) := dk_27 (dk_at dksX2_move_0 10 rfl rfl)
theorem dX2_move_11 : decode cX2_move 11 = .ok (.invokevirtual 335, 3) := dk_182 1 79 (dk_at dksX2_move_0 11 rfl rfl)
theorem dX2_move_14 : decode cX2_move 14 = .ok (.ifCond .eq 13, 3) := dk_153 0 13 (dk_at dksX2_move_0 14 rfl rfl)
theorem dX2_move_17 : decode cX2_move 17 = .ok (.aload_n 0, 1) := dk_42 (dk_at dksX2_move_0 17 rfl rfl)
theorem dX2_move_18 : decode cX2_move 18 = .ok (.getfield 7, 3) := dk_180 0 7 (dk_at dksX2_move_0 18 rfl rfl)
theorem dX2_move_21 : decode cX2_move 21 = .ok (.bipush 8, 2) := dk_16 8 (dk_at dksX2_move_0 21 rfl rfl)
theorem dX2_move_23 : decode cX2_move 23 = .ok (.iaload, 1) := dk_46 (dk_at dksX2_move_0 23 rfl rfl)
theorem dX2_move_24 : decode cX2_move 24 = .ok (.goto 4, 3) := dk_167 0 4 (dk_at dksX2_move_1 0 rfl rfl)
theorem dX2_move_27 : decode cX2_move 27 = .ok (.iconst (-1), 1) := dk_2 (dk_at dksX2_move_1 3 rfl rfl)
theorem dX2_move_28 : decode cX2_move 28 = .ok (.ireturn, 1) := dk_172 (dk_at dksX2_move_1 4 rfl rfl)
abbrev cX2_isTenth : ByteArray := prog_19_method_77_code
def yX2_isTenth : MethodName := ⟨RX2, "isTenth", "(I)Z"⟩
def dkwX2_isTenth_1 : List UInt8 := [4, 172]
abbrev dktX2_isTenth_1 : List UInt8 := dkwX2_isTenth_1 ++ []
def dkwX2_isTenth_0 : List UInt8 := [42, 180, 0, 7, 16, 16, 46, 17, 39, 15, 160, 0, 5, 3, 172, 42, 182, 1, 73, 42, 27, 182, 1, 76]
abbrev dktX2_isTenth_0 : List UInt8 := dkwX2_isTenth_0 ++ dktX2_isTenth_1
theorem dksX2_isTenth_0 : cX2_isTenth.data.toList.drop 0 = dktX2_isTenth_0 := by decide +kernel
theorem dksX2_isTenth_1 : cX2_isTenth.data.toList.drop 24 = dktX2_isTenth_1 := dk_seg dksX2_isTenth_0 24 rfl rfl
theorem dX2_isTenth_0 : decode cX2_isTenth 0 = .ok (.aload_n 0, 1) := dk_42 (dk_at dksX2_isTenth_0 0 rfl rfl)
theorem dX2_isTenth_1 : decode cX2_isTenth 1 = .ok (.getfield 7, 3) := dk_180 0 7 (dk_at dksX2_isTenth_0 1 rfl rfl)
theorem dX2_isTenth_4 : decode cX2_isTenth 4 = .ok (.bipush 16, 2) := dk_16 16 (dk_at dksX2_isTenth_0 4 rfl rfl)
theorem dX2_isTenth_6 : decode cX2_isTenth 6 = .ok (.iaload, 1) := dk_46 (dk_at dksX2_isTenth_0 6 rfl rfl)
theorem dX2_isTenth_7 : decode cX2_isTenth 7 = .ok (.sipush 9999, 3) := dk_17 39 15 (dk_at dksX2_isTenth_0 7 rfl rfl)
theorem dX2_isTenth_10 : decode cX2_isTenth 10 = .ok (.if_icmp .ne 5, 3) := dk_160 0 5 (dk_at dksX2_isTenth_0 10 rfl rfl)
theorem dX2_isTenth_13 : decode cX2_isTenth 13 = .ok (.iconst 0, 1) := dk_3 (dk_at dksX2_isTenth_0 13 rfl rfl)
theorem dX2_isTenth_14 : decode cX2_isTenth 14 = .ok (.ireturn, 1) := dk_172 (dk_at dksX2_isTenth_0 14 rfl rfl)
theorem dX2_isTenth_15 : decode cX2_isTenth 15 = .ok (.aload_n 0, 1) := dk_42 (dk_at dksX2_isTenth_0 15 rfl rfl)
theorem dX2_isTenth_16 : decode cX2_isTenth 16 = .ok (.invokevirtual 329, 3) := dk_182 1 73 (dk_at dksX2_isTenth_0 16 rfl rfl)
theorem dX2_isTenth_19 : decode cX2_isTenth 19 = .ok (.aload_n 0, 1) := dk_42 (dk_at dksX2_isTenth_0 19 rfl rfl)
theorem dX2_isTenth_20 : decode cX2_isTenth 20 = .ok (.iload_n 1, 1) := dk_27 (dk_at dksX2_isTenth_0 20 rfl rfl)
theorem dX2_isTenth_21 : decode cX2_isTenth 21 = .ok (.invokevirtual 332, 3) := dk_182 1 76 (dk_at dksX2_isTenth_0 21 rfl rfl)
theorem dX2_isTenth_24 : decode cX2_isTenth 24 = .ok (.iconst 1, 1) := dk_4 (dk_at dksX2_isTenth_1 0 rfl rfl)
theorem dX2_isTenth_25 : decode cX2_isTenth 25 = .ok (.ireturn, 1) := dk_172 (dk_at dksX2_isTenth_1 1 rfl rfl)
abbrev cX2_keep : ByteArray := prog_19_method_75_code
def yX2_keep : MethodName := ⟨RX2, "keep", "()V"⟩
def dkwX2_keep_7 : List UInt8 := [182, 1, 39, 28, 120, 128, 79, 132, 2, 1, 167, 255, 223, 42, 180, 0, 7, 8, 92, 46, 4, 96, 79, 177]
abbrev dktX2_keep_7 : List UInt8 := dkwX2_keep_7 ++ []
def dkwX2_keep_6 : List UInt8 := [42, 180, 0, 7, 3, 46, 162, 0, 29, 42, 180, 0, 7, 27, 16, 12, 96, 92, 46, 42, 28, 8]
abbrev dktX2_keep_6 : List UInt8 := dkwX2_keep_6 ++ dktX2_keep_7
def dkwX2_keep_5 : List UInt8 := [16, 11, 96, 42, 180, 0, 7, 16, 7, 46, 79, 42, 180, 0, 7, 27, 16, 12, 96, 3, 79, 3, 61, 28]
abbrev dktX2_keep_5 : List UInt8 := dkwX2_keep_5 ++ dktX2_keep_6
def dkwX2_keep_4 : List UInt8 := [167, 255, 230, 42, 180, 0, 7, 27, 16, 10, 96, 42, 180, 0, 7, 5, 46, 79, 42, 180, 0, 7, 27]
abbrev dktX2_keep_4 : List UInt8 := dkwX2_keep_4 ++ dktX2_keep_5
def dkwX2_keep_3 : List UInt8 := [162, 0, 26, 42, 180, 0, 7, 27, 28, 96, 42, 180, 0, 7, 16, 8, 28, 96, 46, 79, 132, 2, 1]
abbrev dktX2_keep_3 : List UInt8 := dkwX2_keep_3 ++ dktX2_keep_4
def dkwX2_keep_2 : List UInt8 := [8, 92, 46, 4, 100, 79, 16, 84, 16, 13, 42, 180, 0, 7, 8, 46, 104, 96, 60, 3, 61, 28, 16, 10]
abbrev dktX2_keep_2 : List UInt8 := dkwX2_keep_2 ++ dktX2_keep_3
def dkwX2_keep_1 : List UInt8 := [16, 84, 27, 96, 42, 180, 0, 7, 16, 97, 27, 96, 46, 79, 132, 1, 1, 167, 255, 228, 42, 180, 0, 7]
abbrev dktX2_keep_1 : List UInt8 := dkwX2_keep_1 ++ dktX2_keep_2
def dkwX2_keep_0 : List UInt8 := [42, 180, 0, 7, 8, 46, 16, 30, 160, 0, 46, 3, 60, 27, 17, 1, 121, 162, 0, 27, 42, 180, 0, 7]
abbrev dktX2_keep_0 : List UInt8 := dkwX2_keep_0 ++ dktX2_keep_1
theorem dksX2_keep_0 : cX2_keep.data.toList.drop 0 = dktX2_keep_0 := by decide +kernel
theorem dksX2_keep_1 : cX2_keep.data.toList.drop 24 = dktX2_keep_1 := dk_seg dksX2_keep_0 24 rfl rfl
theorem dksX2_keep_2 : cX2_keep.data.toList.drop 48 = dktX2_keep_2 := dk_seg dksX2_keep_1 24 rfl rfl
theorem dksX2_keep_3 : cX2_keep.data.toList.drop 72 = dktX2_keep_3 := dk_seg dksX2_keep_2 24 rfl rfl
theorem dksX2_keep_4 : cX2_keep.data.toList.drop 95 = dktX2_keep_4 := dk_seg dksX2_keep_3 23 rfl rfl
theorem dksX2_keep_5 : cX2_keep.data.toList.drop 118 = dktX2_keep_5 := dk_seg dksX2_keep_4 23 rfl rfl
theorem dksX2_keep_6 : cX2_keep.data.toList.drop 142 = dktX2_keep_6 := dk_seg dksX2_keep_5 24 rfl rfl
theorem dksX2_keep_7 : cX2_keep.data.toList.drop 164 = dktX2_keep_7 := dk_seg dksX2_keep_6 22 rfl rfl
theorem dX2_keep_0 : decode cX2_keep 0 = .ok (.aload_n 0, 1) := dk_42 (dk_at dksX2_keep_0 0 rfl rfl)
theorem dX2_keep_1 : decode cX2_keep 1 = .ok (.getfield 7, 3) := dk_180 0 7 (dk_at dksX2_keep_0 1 rfl rfl)
theorem dX2_keep_4 : decode cX2_keep 4 = .ok (.iconst 5, 1) := dk_8 (dk_at dksX2_keep_0 4 rfl rfl)
theorem dX2_keep_5 : decode cX2_keep 5 = .ok (.iaload, 1) := dk_46 (dk_at dksX2_keep_0 5 rfl rfl)
theorem dX2_keep_6 : decode cX2_keep 6 = .ok (.bipush 30, 2) := dk_16 30 (dk_at dksX2_keep_0 6 rfl rfl)
theorem dX2_keep_8 : decode cX2_keep 8 = .ok (.if_icmp .ne 46, 3) := dk_160 0 46 (dk_at dksX2_keep_0 8 rfl rfl)
theorem dX2_keep_11 : decode cX2_keep 11 = .ok (.iconst 0, 1) := dk_3 (dk_at dksX2_keep_0 11 rfl rfl)
theorem dX2_keep_12 : decode cX2_keep 12 = .ok (.istore_n 1, 1) := dk_60 (dk_at dksX2_keep_0 12 rfl rfl)
theorem dX2_keep_13 : decode cX2_keep 13 = .ok (.iload_n 1, 1) := dk_27 (dk_at dksX2_keep_0 13 rfl rfl)
theorem dX2_keep_14 : decode cX2_keep 14 = .ok (.sipush 377, 3) := dk_17 1 121 (dk_at dksX2_keep_0 14 rfl rfl)
theorem dX2_keep_17 : decode cX2_keep 17 = .ok (.if_icmp .ge 27, 3) := dk_162 0 27 (dk_at dksX2_keep_0 17 rfl rfl)
theorem dX2_keep_20 : decode cX2_keep 20 = .ok (.aload_n 0, 1) := dk_42 (dk_at dksX2_keep_0 20 rfl rfl)
theorem dX2_keep_21 : decode cX2_keep 21 = .ok (.getfield 7, 3) := dk_180 0 7 (dk_at dksX2_keep_0 21 rfl rfl)
theorem dX2_keep_24 : decode cX2_keep 24 = .ok (.bipush 84, 2) := dk_16 84 (dk_at dksX2_keep_1 0 rfl rfl)
theorem dX2_keep_26 : decode cX2_keep 26 = .ok (.iload_n 1, 1) := dk_27 (dk_at dksX2_keep_1 2 rfl rfl)
theorem dX2_keep_27 : decode cX2_keep 27 = .ok (.iadd, 1) := dk_96 (dk_at dksX2_keep_1 3 rfl rfl)
theorem dX2_keep_28 : decode cX2_keep 28 = .ok (.aload_n 0, 1) := dk_42 (dk_at dksX2_keep_1 4 rfl rfl)
theorem dX2_keep_29 : decode cX2_keep 29 = .ok (.getfield 7, 3) := dk_180 0 7 (dk_at dksX2_keep_1 5 rfl rfl)
theorem dX2_keep_32 : decode cX2_keep 32 = .ok (.bipush 97, 2) := dk_16 97 (dk_at dksX2_keep_1 8 rfl rfl)
theorem dX2_keep_34 : decode cX2_keep 34 = .ok (.iload_n 1, 1) := dk_27 (dk_at dksX2_keep_1 10 rfl rfl)
theorem dX2_keep_35 : decode cX2_keep 35 = .ok (.iadd, 1) := dk_96 (dk_at dksX2_keep_1 11 rfl rfl)
theorem dX2_keep_36 : decode cX2_keep 36 = .ok (.iaload, 1) := dk_46 (dk_at dksX2_keep_1 12 rfl rfl)
theorem dX2_keep_37 : decode cX2_keep 37 = .ok (.iastore, 1) := dk_79 (dk_at dksX2_keep_1 13 rfl rfl)
theorem dX2_keep_38 : decode cX2_keep 38 = .ok (.iinc 1 1, 3) := dk_132 1 1 (dk_at dksX2_keep_1 14 rfl rfl)
theorem dX2_keep_41 : decode cX2_keep 41 = .ok (.goto (-28), 3) := dk_167 255 228 (dk_at dksX2_keep_1 17 rfl rfl)
theorem dX2_keep_44 : decode cX2_keep 44 = .ok (.aload_n 0, 1) := dk_42 (dk_at dksX2_keep_1 20 rfl rfl)
theorem dX2_keep_45 : decode cX2_keep 45 = .ok (.getfield 7, 3) := dk_180 0 7 (dk_at dksX2_keep_1 21 rfl rfl)
theorem dX2_keep_48 : decode cX2_keep 48 = .ok (.iconst 5, 1) := dk_8 (dk_at dksX2_keep_2 0 rfl rfl)
theorem dX2_keep_49 : decode cX2_keep 49 = .ok (.dup2, 1) := dk_92 (dk_at dksX2_keep_2 1 rfl rfl)
theorem dX2_keep_50 : decode cX2_keep 50 = .ok (.iaload, 1) := dk_46 (dk_at dksX2_keep_2 2 rfl rfl)
theorem dX2_keep_51 : decode cX2_keep 51 = .ok (.iconst 1, 1) := dk_4 (dk_at dksX2_keep_2 3 rfl rfl)
theorem dX2_keep_52 : decode cX2_keep 52 = .ok (.isub, 1) := dk_100 (dk_at dksX2_keep_2 4 rfl rfl)
theorem dX2_keep_53 : decode cX2_keep 53 = .ok (.iastore, 1) := dk_79 (dk_at dksX2_keep_2 5 rfl rfl)
theorem dX2_keep_54 : decode cX2_keep 54 = .ok (.bipush 84, 2) := dk_16 84 (dk_at dksX2_keep_2 6 rfl rfl)
theorem dX2_keep_56 : decode cX2_keep 56 = .ok (.bipush 13, 2) := dk_16 13 (dk_at dksX2_keep_2 8 rfl rfl)
theorem dX2_keep_58 : decode cX2_keep 58 = .ok (.aload_n 0, 1) := dk_42 (dk_at dksX2_keep_2 10 rfl rfl)
theorem dX2_keep_59 : decode cX2_keep 59 = .ok (.getfield 7, 3) := dk_180 0 7 (dk_at dksX2_keep_2 11 rfl rfl)
theorem dX2_keep_62 : decode cX2_keep 62 = .ok (.iconst 5, 1) := dk_8 (dk_at dksX2_keep_2 14 rfl rfl)
theorem dX2_keep_63 : decode cX2_keep 63 = .ok (.iaload, 1) := dk_46 (dk_at dksX2_keep_2 15 rfl rfl)
theorem dX2_keep_64 : decode cX2_keep 64 = .ok (.imul, 1) := dk_104 (dk_at dksX2_keep_2 16 rfl rfl)
theorem dX2_keep_65 : decode cX2_keep 65 = .ok (.iadd, 1) := dk_96 (dk_at dksX2_keep_2 17 rfl rfl)
theorem dX2_keep_66 : decode cX2_keep 66 = .ok (.istore_n 1, 1) := dk_60 (dk_at dksX2_keep_2 18 rfl rfl)
theorem dX2_keep_67 : decode cX2_keep 67 = .ok (.iconst 0, 1) := dk_3 (dk_at dksX2_keep_2 19 rfl rfl)
theorem dX2_keep_68 : decode cX2_keep 68 = .ok (.istore_n 2, 1) := dk_61 (dk_at dksX2_keep_2 20 rfl rfl)
theorem dX2_keep_69 : decode cX2_keep 69 = .ok (.iload_n 2, 1) := dk_28 (dk_at dksX2_keep_2 21 rfl rfl)
theorem dX2_keep_70 : decode cX2_keep 70 = .ok (.bipush 10, 2) := dk_16 10 (dk_at dksX2_keep_2 22 rfl rfl)
theorem dX2_keep_72 : decode cX2_keep 72 = .ok (.if_icmp .ge 26, 3) := dk_162 0 26 (dk_at dksX2_keep_3 0 rfl rfl)
theorem dX2_keep_75 : decode cX2_keep 75 = .ok (.aload_n 0, 1) := dk_42 (dk_at dksX2_keep_3 3 rfl rfl)
theorem dX2_keep_76 : decode cX2_keep 76 = .ok (.getfield 7, 3) := dk_180 0 7 (dk_at dksX2_keep_3 4 rfl rfl)
theorem dX2_keep_79 : decode cX2_keep 79 = .ok (.iload_n 1, 1) := dk_27 (dk_at dksX2_keep_3 7 rfl rfl)
theorem dX2_keep_80 : decode cX2_keep 80 = .ok (.iload_n 2, 1) := dk_28 (dk_at dksX2_keep_3 8 rfl rfl)
theorem dX2_keep_81 : decode cX2_keep 81 = .ok (.iadd, 1) := dk_96 (dk_at dksX2_keep_3 9 rfl rfl)
theorem dX2_keep_82 : decode cX2_keep 82 = .ok (.aload_n 0, 1) := dk_42 (dk_at dksX2_keep_3 10 rfl rfl)
theorem dX2_keep_83 : decode cX2_keep 83 = .ok (.getfield 7, 3) := dk_180 0 7 (dk_at dksX2_keep_3 11 rfl rfl)
theorem dX2_keep_86 : decode cX2_keep 86 = .ok (.bipush 8, 2) := dk_16 8 (dk_at dksX2_keep_3 14 rfl rfl)
theorem dX2_keep_88 : decode cX2_keep 88 = .ok (.iload_n 2, 1) := dk_28 (dk_at dksX2_keep_3 16 rfl rfl)
theorem dX2_keep_89 : decode cX2_keep 89 = .ok (.iadd, 1) := dk_96 (dk_at dksX2_keep_3 17 rfl rfl)
theorem dX2_keep_90 : decode cX2_keep 90 = .ok (.iaload, 1) := dk_46 (dk_at dksX2_keep_3 18 rfl rfl)
theorem dX2_keep_91 : decode cX2_keep 91 = .ok (.iastore, 1) := dk_79 (dk_at dksX2_keep_3 19 rfl rfl)
theorem dX2_keep_92 : decode cX2_keep 92 = .ok (.iinc 2 1, 3) := dk_132 2 1 (dk_at dksX2_keep_3 20 rfl rfl)
theorem dX2_keep_95 : decode cX2_keep 95 = .ok (.goto (-26), 3) := dk_167 255 230 (dk_at dksX2_keep_4 0 rfl rfl)
theorem dX2_keep_98 : decode cX2_keep 98 = .ok (.aload_n 0, 1) := dk_42 (dk_at dksX2_keep_4 3 rfl rfl)
theorem dX2_keep_99 : decode cX2_keep 99 = .ok (.getfield 7, 3) := dk_180 0 7 (dk_at dksX2_keep_4 4 rfl rfl)
theorem dX2_keep_102 : decode cX2_keep 102 = .ok (.iload_n 1, 1) := dk_27 (dk_at dksX2_keep_4 7 rfl rfl)
theorem dX2_keep_103 : decode cX2_keep 103 = .ok (.bipush 10, 2) := dk_16 10 (dk_at dksX2_keep_4 8 rfl rfl)
theorem dX2_keep_105 : decode cX2_keep 105 = .ok (.iadd, 1) := dk_96 (dk_at dksX2_keep_4 10 rfl rfl)
theorem dX2_keep_106 : decode cX2_keep 106 = .ok (.aload_n 0, 1) := dk_42 (dk_at dksX2_keep_4 11 rfl rfl)
theorem dX2_keep_107 : decode cX2_keep 107 = .ok (.getfield 7, 3) := dk_180 0 7 (dk_at dksX2_keep_4 12 rfl rfl)
theorem dX2_keep_110 : decode cX2_keep 110 = .ok (.iconst 2, 1) := dk_5 (dk_at dksX2_keep_4 15 rfl rfl)
theorem dX2_keep_111 : decode cX2_keep 111 = .ok (.iaload, 1) := dk_46 (dk_at dksX2_keep_4 16 rfl rfl)
theorem dX2_keep_112 : decode cX2_keep 112 = .ok (.iastore, 1) := dk_79 (dk_at dksX2_keep_4 17 rfl rfl)
theorem dX2_keep_113 : decode cX2_keep 113 = .ok (.aload_n 0, 1) := dk_42 (dk_at dksX2_keep_4 18 rfl rfl)
theorem dX2_keep_114 : decode cX2_keep 114 = .ok (.getfield 7, 3) := dk_180 0 7 (dk_at dksX2_keep_4 19 rfl rfl)
theorem dX2_keep_117 : decode cX2_keep 117 = .ok (.iload_n 1, 1) := dk_27 (dk_at dksX2_keep_4 22 rfl rfl)
theorem dX2_keep_118 : decode cX2_keep 118 = .ok (.bipush 11, 2) := dk_16 11 (dk_at dksX2_keep_5 0 rfl rfl)
theorem dX2_keep_120 : decode cX2_keep 120 = .ok (.iadd, 1) := dk_96 (dk_at dksX2_keep_5 2 rfl rfl)
theorem dX2_keep_121 : decode cX2_keep 121 = .ok (.aload_n 0, 1) := dk_42 (dk_at dksX2_keep_5 3 rfl rfl)
theorem dX2_keep_122 : decode cX2_keep 122 = .ok (.getfield 7, 3) := dk_180 0 7 (dk_at dksX2_keep_5 4 rfl rfl)
theorem dX2_keep_125 : decode cX2_keep 125 = .ok (.bipush 7, 2) := dk_16 7 (dk_at dksX2_keep_5 7 rfl rfl)
theorem dX2_keep_127 : decode cX2_keep 127 = .ok (.iaload, 1) := dk_46 (dk_at dksX2_keep_5 9 rfl rfl)
theorem dX2_keep_128 : decode cX2_keep 128 = .ok (.iastore, 1) := dk_79 (dk_at dksX2_keep_5 10 rfl rfl)
theorem dX2_keep_129 : decode cX2_keep 129 = .ok (.aload_n 0, 1) := dk_42 (dk_at dksX2_keep_5 11 rfl rfl)
theorem dX2_keep_130 : decode cX2_keep 130 = .ok (.getfield 7, 3) := dk_180 0 7 (dk_at dksX2_keep_5 12 rfl rfl)
theorem dX2_keep_133 : decode cX2_keep 133 = .ok (.iload_n 1, 1) := dk_27 (dk_at dksX2_keep_5 15 rfl rfl)
theorem dX2_keep_134 : decode cX2_keep 134 = .ok (.bipush 12, 2) := dk_16 12 (dk_at dksX2_keep_5 16 rfl rfl)
theorem dX2_keep_136 : decode cX2_keep 136 = .ok (.iadd, 1) := dk_96 (dk_at dksX2_keep_5 18 rfl rfl)
theorem dX2_keep_137 : decode cX2_keep 137 = .ok (.iconst 0, 1) := dk_3 (dk_at dksX2_keep_5 19 rfl rfl)
theorem dX2_keep_138 : decode cX2_keep 138 = .ok (.iastore, 1) := dk_79 (dk_at dksX2_keep_5 20 rfl rfl)
theorem dX2_keep_139 : decode cX2_keep 139 = .ok (.iconst 0, 1) := dk_3 (dk_at dksX2_keep_5 21 rfl rfl)
theorem dX2_keep_140 : decode cX2_keep 140 = .ok (.istore_n 2, 1) := dk_61 (dk_at dksX2_keep_5 22 rfl rfl)
theorem dX2_keep_141 : decode cX2_keep 141 = .ok (.iload_n 2, 1) := dk_28 (dk_at dksX2_keep_5 23 rfl rfl)
theorem dX2_keep_142 : decode cX2_keep 142 = .ok (.aload_n 0, 1) := dk_42 (dk_at dksX2_keep_6 0 rfl rfl)
theorem dX2_keep_143 : decode cX2_keep 143 = .ok (.getfield 7, 3) := dk_180 0 7 (dk_at dksX2_keep_6 1 rfl rfl)
theorem dX2_keep_146 : decode cX2_keep 146 = .ok (.iconst 0, 1) := dk_3 (dk_at dksX2_keep_6 4 rfl rfl)
theorem dX2_keep_147 : decode cX2_keep 147 = .ok (.iaload, 1) := dk_46 (dk_at dksX2_keep_6 5 rfl rfl)
theorem dX2_keep_148 : decode cX2_keep 148 = .ok (.if_icmp .ge 29, 3) := dk_162 0 29 (dk_at dksX2_keep_6 6 rfl rfl)
theorem dX2_keep_151 : decode cX2_keep 151 = .ok (.aload_n 0, 1) := dk_42 (dk_at dksX2_keep_6 9 rfl rfl)
theorem dX2_keep_152 : decode cX2_keep 152 = .ok (.getfield 7, 3) := dk_180 0 7 (dk_at dksX2_keep_6 10 rfl rfl)
theorem dX2_keep_155 : decode cX2_keep 155 = .ok (.iload_n 1, 1) := dk_27 (dk_at dksX2_keep_6 13 rfl rfl)
theorem dX2_keep_156 : decode cX2_keep 156 = .ok (.bipush 12, 2) := dk_16 12 (dk_at dksX2_keep_6 14 rfl rfl)
theorem dX2_keep_158 : decode cX2_keep 158 = .ok (.iadd, 1) := dk_96 (dk_at dksX2_keep_6 16 rfl rfl)
theorem dX2_keep_159 : decode cX2_keep 159 = .ok (.dup2, 1) := dk_92 (dk_at dksX2_keep_6 17 rfl rfl)
theorem dX2_keep_160 : decode cX2_keep 160 = .ok (.iaload, 1) := dk_46 (dk_at dksX2_keep_6 18 rfl rfl)
theorem dX2_keep_161 : decode cX2_keep 161 = .ok (.aload_n 0, 1) := dk_42 (dk_at dksX2_keep_6 19 rfl rfl)
theorem dX2_keep_162 : decode cX2_keep 162 = .ok (.iload_n 2, 1) := dk_28 (dk_at dksX2_keep_6 20 rfl rfl)
theorem dX2_keep_163 : decode cX2_keep 163 = .ok (.iconst 5, 1) := dk_8 (dk_at dksX2_keep_6 21 rfl rfl)
theorem dX2_keep_164 : decode cX2_keep 164 = .ok (.invokevirtual 295, 3) := dk_182 1 39 (dk_at dksX2_keep_7 0 rfl rfl)
theorem dX2_keep_167 : decode cX2_keep 167 = .ok (.iload_n 2, 1) := dk_28 (dk_at dksX2_keep_7 3 rfl rfl)
theorem dX2_keep_168 : decode cX2_keep 168 = .ok (.ishl, 1) := dk_120 (dk_at dksX2_keep_7 4 rfl rfl)
theorem dX2_keep_169 : decode cX2_keep 169 = .ok (.ior, 1) := dk_128 (dk_at dksX2_keep_7 5 rfl rfl)
theorem dX2_keep_170 : decode cX2_keep 170 = .ok (.iastore, 1) := dk_79 (dk_at dksX2_keep_7 6 rfl rfl)
theorem dX2_keep_171 : decode cX2_keep 171 = .ok (.iinc 2 1, 3) := dk_132 2 1 (dk_at dksX2_keep_7 7 rfl rfl)
theorem dX2_keep_174 : decode cX2_keep 174 = .ok (.goto (-33), 3) := dk_167 255 223 (dk_at dksX2_keep_7 10 rfl rfl)
theorem dX2_keep_177 : decode cX2_keep 177 = .ok (.aload_n 0, 1) := dk_42 (dk_at dksX2_keep_7 13 rfl rfl)
theorem dX2_keep_178 : decode cX2_keep 178 = .ok (.getfield 7, 3) := dk_180 0 7 (dk_at dksX2_keep_7 14 rfl rfl)
theorem dX2_keep_181 : decode cX2_keep 181 = .ok (.iconst 5, 1) := dk_8 (dk_at dksX2_keep_7 17 rfl rfl)
theorem dX2_keep_182 : decode cX2_keep 182 = .ok (.dup2, 1) := dk_92 (dk_at dksX2_keep_7 18 rfl rfl)
theorem dX2_keep_183 : decode cX2_keep 183 = .ok (.iaload, 1) := dk_46 (dk_at dksX2_keep_7 19 rfl rfl)
theorem dX2_keep_184 : decode cX2_keep 184 = .ok (.iconst 1, 1) := dk_4 (dk_at dksX2_keep_7 20 rfl rfl)
theorem dX2_keep_185 : decode cX2_keep 185 = .ok (.iadd, 1) := dk_96 (dk_at dksX2_keep_7 21 rfl rfl)
theorem dX2_keep_186 : decode cX2_keep 186 = .ok (.iastore, 1) := dk_79 (dk_at dksX2_keep_7 22 rfl rfl)
theorem dX2_keep_187 : decode cX2_keep 187 = .ok (.return_, 1) := dk_177 (dk_at dksX2_keep_7 23 rfl rfl)
abbrev cX2_get : ByteArray := prog_19_method_9_code
def yX2_get : MethodName := ⟨RX2, "get", "(II)I"⟩
def dkwX2_get_0 : List UInt8 := [42, 180, 0, 7, 16, 20, 16, 6, 27, 104, 96, 28, 96, 46, 172]
abbrev dktX2_get_0 : List UInt8 := dkwX2_get_0 ++ []
theorem dksX2_get_0 : cX2_get.data.toList.drop 0 = dktX2_get_0 := by decide +kernel
theorem dX2_get_0 : decode cX2_get 0 = .ok (.aload_n 0, 1) := dk_42 (dk_at dksX2_get_0 0 rfl rfl)
theorem dX2_get_1 : decode cX2_get 1 = .ok (.getfield 7, 3) := dk_180 0 7 (dk_at dksX2_get_0 1 rfl rfl)
theorem dX2_get_4 : decode cX2_get 4 = .ok (.bipush 20, 2) := dk_16 20 (dk_at dksX2_get_0 4 rfl rfl)
theorem dX2_get_6 : decode cX2_get 6 = .ok (.bipush 6, 2) := dk_16 6 (dk_at dksX2_get_0 6 rfl rfl)
theorem dX2_get_8 : decode cX2_get 8 = .ok (.iload_n 1, 1) := dk_27 (dk_at dksX2_get_0 8 rfl rfl)
theorem dX2_get_9 : decode cX2_get 9 = .ok (.imul, 1) := dk_104 (dk_at dksX2_get_0 9 rfl rfl)
theorem dX2_get_10 : decode cX2_get 10 = .ok (.iadd, 1) := dk_96 (dk_at dksX2_get_0 10 rfl rfl)
theorem dX2_get_11 : decode cX2_get 11 = .ok (.iload_n 2, 1) := dk_28 (dk_at dksX2_get_0 11 rfl rfl)
theorem dX2_get_12 : decode cX2_get 12 = .ok (.iadd, 1) := dk_96 (dk_at dksX2_get_0 12 rfl rfl)
theorem dX2_get_13 : decode cX2_get 13 = .ok (.iaload, 1) := dk_46 (dk_at dksX2_get_0 13 rfl rfl)
theorem dX2_get_14 : decode cX2_get 14 = .ok (.ireturn, 1) := dk_172 (dk_at dksX2_get_0 14 rfl rfl)
abbrev cX2_pass : ByteArray := prog_19_method_72_code
def yX2_pass : MethodName := ⟨RX2, "pass", "(I)V"⟩
def dkwX2_pass_11 : List UInt8 := [180, 0, 7, 16, 16, 92, 46, 4, 96, 79, 177]
abbrev dktX2_pass_11 : List UInt8 := dkwX2_pass_11 ++ []
def dkwX2_pass_10 : List UInt8 := [180, 0, 7, 16, 14, 46, 158, 0, 15, 42, 180, 0, 7, 16, 14, 46, 4, 100, 167, 0, 4, 3, 79, 42]
abbrev dktX2_pass_10 : List UInt8 := dkwX2_pass_10 ++ dktX2_pass_11
def dkwX2_pass_9 : List UInt8 := [180, 0, 7, 16, 16, 46, 4, 96, 16, 40, 112, 154, 0, 12, 42, 16, 10, 182, 1, 64, 167, 0, 26, 42]
abbrev dktX2_pass_9 : List UInt8 := dkwX2_pass_9 ++ dktX2_pass_10
def dkwX2_pass_8 : List UInt8 := [17, 216, 241, 17, 39, 15, 184, 1, 33, 79, 42, 180, 1, 61, 154, 0, 57, 42, 180, 0, 7, 16, 14, 42]
abbrev dktX2_pass_8 : List UInt8 := dkwX2_pass_8 ++ dktX2_pass_9
def dkwX2_pass_7 : List UInt8 := [79, 42, 180, 0, 7, 16, 10, 42, 180, 0, 7, 16, 10, 46, 42, 180, 0, 7, 16, 11, 46, 96]
abbrev dktX2_pass_7 : List UInt8 := dkwX2_pass_7 ++ dktX2_pass_8
def dkwX2_pass_6 : List UInt8 := [46, 108, 16, 157, 16, 99, 184, 1, 33, 16, 157, 16, 99, 182, 1, 42, 96, 16, 157, 16, 99, 184, 1, 33]
abbrev dktX2_pass_6 : List UInt8 := dkwX2_pass_6 ++ dktX2_pass_7
def dkwX2_pass_5 : List UInt8 := [180, 0, 7, 16, 11, 42, 180, 0, 7, 16, 11, 46, 42, 4, 42, 182, 1, 36, 42, 180, 0, 7, 16, 12]
abbrev dktX2_pass_5 : List UInt8 := dkwX2_pass_5 ++ dktX2_pass_6
def dkwX2_pass_4 : List UInt8 := [46, 3, 17, 2, 88, 184, 1, 33, 79, 42, 180, 0, 7, 16, 9, 3, 79, 42, 182, 1, 58, 42]
abbrev dktX2_pass_4 : List UInt8 := dkwX2_pass_4 ++ dktX2_pass_5
def dkwX2_pass_3 : List UInt8 := [180, 0, 7, 16, 8, 46, 17, 2, 88, 164, 0, 32, 42, 180, 0, 7, 16, 8, 42, 180, 0, 7, 16, 8]
abbrev dktX2_pass_3 : List UInt8 := dkwX2_pass_3 ++ dktX2_pass_4
def dkwX2_pass_2 : List UInt8 := [92, 46, 42, 180, 0, 7, 16, 9, 46, 96, 79, 42, 180, 0, 7, 16, 8, 46, 155, 0, 16, 42]
abbrev dktX2_pass_2 : List UInt8 := dkwX2_pass_2 ++ dktX2_pass_3
def dkwX2_pass_1 : List UInt8 := [16, 9, 42, 180, 0, 7, 16, 9, 46, 27, 96, 28, 116, 28, 184, 1, 33, 79, 42, 180, 0, 7, 16, 8]
abbrev dktX2_pass_1 : List UInt8 := dkwX2_pass_1 ++ dktX2_pass_2
def dkwX2_pass_0 : List UInt8 := [42, 27, 182, 1, 55, 42, 182, 1, 58, 42, 3, 6, 3, 16, 9, 182, 1, 42, 61, 42, 180, 0, 7]
abbrev dktX2_pass_0 : List UInt8 := dkwX2_pass_0 ++ dktX2_pass_1
theorem dksX2_pass_0 : cX2_pass.data.toList.drop 0 = dktX2_pass_0 := by decide +kernel
theorem dksX2_pass_1 : cX2_pass.data.toList.drop 23 = dktX2_pass_1 := dk_seg dksX2_pass_0 23 rfl rfl
theorem dksX2_pass_2 : cX2_pass.data.toList.drop 47 = dktX2_pass_2 := dk_seg dksX2_pass_1 24 rfl rfl
theorem dksX2_pass_3 : cX2_pass.data.toList.drop 69 = dktX2_pass_3 := dk_seg dksX2_pass_2 22 rfl rfl
theorem dksX2_pass_4 : cX2_pass.data.toList.drop 93 = dktX2_pass_4 := dk_seg dksX2_pass_3 24 rfl rfl
theorem dksX2_pass_5 : cX2_pass.data.toList.drop 115 = dktX2_pass_5 := dk_seg dksX2_pass_4 22 rfl rfl
theorem dksX2_pass_6 : cX2_pass.data.toList.drop 139 = dktX2_pass_6 := dk_seg dksX2_pass_5 24 rfl rfl
theorem dksX2_pass_7 : cX2_pass.data.toList.drop 163 = dktX2_pass_7 := dk_seg dksX2_pass_6 24 rfl rfl
theorem dksX2_pass_8 : cX2_pass.data.toList.drop 185 = dktX2_pass_8 := dk_seg dksX2_pass_7 22 rfl rfl
theorem dksX2_pass_9 : cX2_pass.data.toList.drop 209 = dktX2_pass_9 := dk_seg dksX2_pass_8 24 rfl rfl
theorem dksX2_pass_10 : cX2_pass.data.toList.drop 233 = dktX2_pass_10 := dk_seg dksX2_pass_9 24 rfl rfl
theorem dksX2_pass_11 : cX2_pass.data.toList.drop 257 = dktX2_pass_11 := dk_seg dksX2_pass_10 24 rfl rfl
theorem dX2_pass_0 : decode cX2_pass 0 = .ok (.aload_n 0, 1) := dk_42 (dk_at dksX2_pass_0 0 rfl rfl)
theorem dX2_pass_1 : decode cX2_pass 1 = .ok (.iload_n 1, 1) := dk_27 (dk_at dksX2_pass_0 1 rfl rfl)
theorem dX2_pass_2 : decode cX2_pass 2 = .ok (.invokevirtual 311, 3) := dk_182 1 55 (dk_at dksX2_pass_0 2 rfl rfl)
theorem dX2_pass_5 : decode cX2_pass 5 = .ok (.aload_n 0, 1) := dk_42 (dk_at dksX2_pass_0 5 rfl rfl)
theorem dX2_pass_6 : decode cX2_pass 6 = .ok (.invokevirtual 314, 3) := dk_182 1 58 (dk_at dksX2_pass_0 6 rfl rfl)
theorem dX2_pass_9 : decode cX2_pass 9 = .ok (.aload_n 0, 1) := dk_42 (dk_at dksX2_pass_0 9 rfl rfl)
theorem dX2_pass_10 : decode cX2_pass 10 = .ok (.iconst 0, 1) := dk_3 (dk_at dksX2_pass_0 10 rfl rfl)
theorem dX2_pass_11 : decode cX2_pass 11 = .ok (.iconst 3, 1) := dk_6 (dk_at dksX2_pass_0 11 rfl rfl)
theorem dX2_pass_12 : decode cX2_pass 12 = .ok (.iconst 0, 1) := dk_3 (dk_at dksX2_pass_0 12 rfl rfl)
theorem dX2_pass_13 : decode cX2_pass 13 = .ok (.bipush 9, 2) := dk_16 9 (dk_at dksX2_pass_0 13 rfl rfl)
theorem dX2_pass_15 : decode cX2_pass 15 = .ok (.invokevirtual 298, 3) := dk_182 1 42 (dk_at dksX2_pass_0 15 rfl rfl)
theorem dX2_pass_18 : decode cX2_pass 18 = .ok (.istore_n 2, 1) := dk_61 (dk_at dksX2_pass_0 18 rfl rfl)
theorem dX2_pass_19 : decode cX2_pass 19 = .ok (.aload_n 0, 1) := dk_42 (dk_at dksX2_pass_0 19 rfl rfl)
theorem dX2_pass_20 : decode cX2_pass 20 = .ok (.getfield 7, 3) := dk_180 0 7 (dk_at dksX2_pass_0 20 rfl rfl)
theorem dX2_pass_23 : decode cX2_pass 23 = .ok (.bipush 9, 2) := dk_16 9 (dk_at dksX2_pass_1 0 rfl rfl)
theorem dX2_pass_25 : decode cX2_pass 25 = .ok (.aload_n 0, 1) := dk_42 (dk_at dksX2_pass_1 2 rfl rfl)
theorem dX2_pass_26 : decode cX2_pass 26 = .ok (.getfield 7, 3) := dk_180 0 7 (dk_at dksX2_pass_1 3 rfl rfl)
theorem dX2_pass_29 : decode cX2_pass 29 = .ok (.bipush 9, 2) := dk_16 9 (dk_at dksX2_pass_1 6 rfl rfl)
theorem dX2_pass_31 : decode cX2_pass 31 = .ok (.iaload, 1) := dk_46 (dk_at dksX2_pass_1 8 rfl rfl)
theorem dX2_pass_32 : decode cX2_pass 32 = .ok (.iload_n 1, 1) := dk_27 (dk_at dksX2_pass_1 9 rfl rfl)
theorem dX2_pass_33 : decode cX2_pass 33 = .ok (.iadd, 1) := dk_96 (dk_at dksX2_pass_1 10 rfl rfl)
theorem dX2_pass_34 : decode cX2_pass 34 = .ok (.iload_n 2, 1) := dk_28 (dk_at dksX2_pass_1 11 rfl rfl)
theorem dX2_pass_35 : decode cX2_pass 35 = .ok (.ineg, 1) := dk_116 (dk_at dksX2_pass_1 12 rfl rfl)
theorem dX2_pass_36 : decode cX2_pass 36 = .ok (.iload_n 2, 1) := dk_28 (dk_at dksX2_pass_1 13 rfl rfl)
theorem dX2_pass_37 : decode cX2_pass 37 = .ok (.invokestatic 289, 3) := dk_184 1 33 (dk_at dksX2_pass_1 14 rfl rfl)
theorem dX2_pass_40 : decode cX2_pass 40 = .ok (.iastore, 1) := dk_79 (dk_at dksX2_pass_1 17 rfl rfl)
theorem dX2_pass_41 : decode cX2_pass 41 = .ok (.aload_n 0, 1) := dk_42 (dk_at dksX2_pass_1 18 rfl rfl)
theorem dX2_pass_42 : decode cX2_pass 42 = .ok (.getfield 7, 3) := dk_180 0 7 (dk_at dksX2_pass_1 19 rfl rfl)
theorem dX2_pass_45 : decode cX2_pass 45 = .ok (.bipush 8, 2) := dk_16 8 (dk_at dksX2_pass_1 22 rfl rfl)
theorem dX2_pass_47 : decode cX2_pass 47 = .ok (.dup2, 1) := dk_92 (dk_at dksX2_pass_2 0 rfl rfl)
theorem dX2_pass_48 : decode cX2_pass 48 = .ok (.iaload, 1) := dk_46 (dk_at dksX2_pass_2 1 rfl rfl)
theorem dX2_pass_49 : decode cX2_pass 49 = .ok (.aload_n 0, 1) := dk_42 (dk_at dksX2_pass_2 2 rfl rfl)
theorem dX2_pass_50 : decode cX2_pass 50 = .ok (.getfield 7, 3) := dk_180 0 7 (dk_at dksX2_pass_2 3 rfl rfl)
theorem dX2_pass_53 : decode cX2_pass 53 = .ok (.bipush 9, 2) := dk_16 9 (dk_at dksX2_pass_2 6 rfl rfl)
theorem dX2_pass_55 : decode cX2_pass 55 = .ok (.iaload, 1) := dk_46 (dk_at dksX2_pass_2 8 rfl rfl)
theorem dX2_pass_56 : decode cX2_pass 56 = .ok (.iadd, 1) := dk_96 (dk_at dksX2_pass_2 9 rfl rfl)
theorem dX2_pass_57 : decode cX2_pass 57 = .ok (.iastore, 1) := dk_79 (dk_at dksX2_pass_2 10 rfl rfl)
theorem dX2_pass_58 : decode cX2_pass 58 = .ok (.aload_n 0, 1) := dk_42 (dk_at dksX2_pass_2 11 rfl rfl)
theorem dX2_pass_59 : decode cX2_pass 59 = .ok (.getfield 7, 3) := dk_180 0 7 (dk_at dksX2_pass_2 12 rfl rfl)
theorem dX2_pass_62 : decode cX2_pass 62 = .ok (.bipush 8, 2) := dk_16 8 (dk_at dksX2_pass_2 15 rfl rfl)
theorem dX2_pass_64 : decode cX2_pass 64 = .ok (.iaload, 1) := dk_46 (dk_at dksX2_pass_2 17 rfl rfl)
theorem dX2_pass_65 : decode cX2_pass 65 = .ok (.ifCond .lt 16, 3) := dk_155 0 16 (dk_at dksX2_pass_2 18 rfl rfl)
theorem dX2_pass_68 : decode cX2_pass 68 = .ok (.aload_n 0, 1) := dk_42 (dk_at dksX2_pass_2 21 rfl rfl)
theorem dX2_pass_69 : decode cX2_pass 69 = .ok (.getfield 7, 3) := dk_180 0 7 (dk_at dksX2_pass_3 0 rfl rfl)
theorem dX2_pass_72 : decode cX2_pass 72 = .ok (.bipush 8, 2) := dk_16 8 (dk_at dksX2_pass_3 3 rfl rfl)
theorem dX2_pass_74 : decode cX2_pass 74 = .ok (.iaload, 1) := dk_46 (dk_at dksX2_pass_3 5 rfl rfl)
theorem dX2_pass_75 : decode cX2_pass 75 = .ok (.sipush 600, 3) := dk_17 2 88 (dk_at dksX2_pass_3 6 rfl rfl)
theorem dX2_pass_78 : decode cX2_pass 78 = .ok (.if_icmp .le 32, 3) := dk_164 0 32 (dk_at dksX2_pass_3 9 rfl rfl)
theorem dX2_pass_81 : decode cX2_pass 81 = .ok (.aload_n 0, 1) := dk_42 (dk_at dksX2_pass_3 12 rfl rfl)
theorem dX2_pass_82 : decode cX2_pass 82 = .ok (.getfield 7, 3) := dk_180 0 7 (dk_at dksX2_pass_3 13 rfl rfl)
theorem dX2_pass_85 : decode cX2_pass 85 = .ok (.bipush 8, 2) := dk_16 8 (dk_at dksX2_pass_3 16 rfl rfl)
theorem dX2_pass_87 : decode cX2_pass 87 = .ok (.aload_n 0, 1) := dk_42 (dk_at dksX2_pass_3 18 rfl rfl)
theorem dX2_pass_88 : decode cX2_pass 88 = .ok (.getfield 7, 3) := dk_180 0 7 (dk_at dksX2_pass_3 19 rfl rfl)
theorem dX2_pass_91 : decode cX2_pass 91 = .ok (.bipush 8, 2) := dk_16 8 (dk_at dksX2_pass_3 22 rfl rfl)
theorem dX2_pass_93 : decode cX2_pass 93 = .ok (.iaload, 1) := dk_46 (dk_at dksX2_pass_4 0 rfl rfl)
theorem dX2_pass_94 : decode cX2_pass 94 = .ok (.iconst 0, 1) := dk_3 (dk_at dksX2_pass_4 1 rfl rfl)
theorem dX2_pass_95 : decode cX2_pass 95 = .ok (.sipush 600, 3) := dk_17 2 88 (dk_at dksX2_pass_4 2 rfl rfl)
theorem dX2_pass_98 : decode cX2_pass 98 = .ok (.invokestatic 289, 3) := dk_184 1 33 (dk_at dksX2_pass_4 5 rfl rfl)
theorem dX2_pass_101 : decode cX2_pass 101 = .ok (.iastore, 1) := dk_79 (dk_at dksX2_pass_4 8 rfl rfl)
theorem dX2_pass_102 : decode cX2_pass 102 = .ok (.aload_n 0, 1) := dk_42 (dk_at dksX2_pass_4 9 rfl rfl)
theorem dX2_pass_103 : decode cX2_pass 103 = .ok (.getfield 7, 3) := dk_180 0 7 (dk_at dksX2_pass_4 10 rfl rfl)
theorem dX2_pass_106 : decode cX2_pass 106 = .ok (.bipush 9, 2) := dk_16 9 (dk_at dksX2_pass_4 13 rfl rfl)
theorem dX2_pass_108 : decode cX2_pass 108 = .ok (.iconst 0, 1) := dk_3 (dk_at dksX2_pass_4 15 rfl rfl)
theorem dX2_pass_109 : decode cX2_pass 109 = .ok (.iastore, 1) := dk_79 (dk_at dksX2_pass_4 16 rfl rfl)
theorem dX2_pass_110 : decode cX2_pass 110 = .ok (.aload_n 0, 1) := dk_42 (dk_at dksX2_pass_4 17 rfl rfl)
theorem dX2_pass_111 : decode cX2_pass 111 = .ok (.invokevirtual 314, 3) := dk_182 1 58 (dk_at dksX2_pass_4 18 rfl rfl)
theorem dX2_pass_114 : decode cX2_pass 114 = .ok (.aload_n 0, 1) := dk_42 (dk_at dksX2_pass_4 21 rfl rfl)
theorem dX2_pass_115 : decode cX2_pass 115 = .ok (.getfield 7, 3) := dk_180 0 7 (dk_at dksX2_pass_5 0 rfl rfl)
theorem dX2_pass_118 : decode cX2_pass 118 = .ok (.bipush 11, 2) := dk_16 11 (dk_at dksX2_pass_5 3 rfl rfl)
theorem dX2_pass_120 : decode cX2_pass 120 = .ok (.aload_n 0, 1) := dk_42 (dk_at dksX2_pass_5 5 rfl rfl)
theorem dX2_pass_121 : decode cX2_pass 121 = .ok (.getfield 7, 3) := dk_180 0 7 (dk_at dksX2_pass_5 6 rfl rfl)
theorem dX2_pass_124 : decode cX2_pass 124 = .ok (.bipush 11, 2) := dk_16 11 (dk_at dksX2_pass_5 9 rfl rfl)
theorem dX2_pass_126 : decode cX2_pass 126 = .ok (.iaload, 1) := dk_46 (dk_at dksX2_pass_5 11 rfl rfl)
theorem dX2_pass_127 : decode cX2_pass 127 = .ok (.aload_n 0, 1) := dk_42 (dk_at dksX2_pass_5 12 rfl rfl)
theorem dX2_pass_128 : decode cX2_pass 128 = .ok (.iconst 1, 1) := dk_4 (dk_at dksX2_pass_5 13 rfl rfl)
theorem dX2_pass_129 : decode cX2_pass 129 = .ok (.aload_n 0, 1) := dk_42 (dk_at dksX2_pass_5 14 rfl rfl)
theorem dX2_pass_130 : decode cX2_pass 130 = .ok (.invokevirtual 292, 3) := dk_182 1 36 (dk_at dksX2_pass_5 15 rfl rfl)
theorem dX2_pass_133 : decode cX2_pass 133 = .ok (.aload_n 0, 1) := dk_42 (dk_at dksX2_pass_5 18 rfl rfl)
theorem dX2_pass_134 : decode cX2_pass 134 = .ok (.getfield 7, 3) := dk_180 0 7 (dk_at dksX2_pass_5 19 rfl rfl)
theorem dX2_pass_137 : decode cX2_pass 137 = .ok (.bipush 12, 2) := dk_16 12 (dk_at dksX2_pass_5 22 rfl rfl)
theorem dX2_pass_139 : decode cX2_pass 139 = .ok (.iaload, 1) := dk_46 (dk_at dksX2_pass_6 0 rfl rfl)
theorem dX2_pass_140 : decode cX2_pass 140 = .ok (.idiv, 1) := dk_108 (dk_at dksX2_pass_6 1 rfl rfl)
theorem dX2_pass_141 : decode cX2_pass 141 = .ok (.bipush (-99), 2) := dk_16 157 (dk_at dksX2_pass_6 2 rfl rfl)
theorem dX2_pass_143 : decode cX2_pass 143 = .ok (.bipush 99, 2) := dk_16 99 (dk_at dksX2_pass_6 4 rfl rfl)
theorem dX2_pass_145 : decode cX2_pass 145 = .ok (.invokestatic 289, 3) := dk_184 1 33 (dk_at dksX2_pass_6 6 rfl rfl)
theorem dX2_pass_148 : decode cX2_pass 148 = .ok (.bipush (-99), 2) := dk_16 157 (dk_at dksX2_pass_6 9 rfl rfl)
theorem dX2_pass_150 : decode cX2_pass 150 = .ok (.bipush 99, 2) := dk_16 99 (dk_at dksX2_pass_6 11 rfl rfl)
theorem dX2_pass_152 : decode cX2_pass 152 = .ok (.invokevirtual 298, 3) := dk_182 1 42 (dk_at dksX2_pass_6 13 rfl rfl)
theorem dX2_pass_155 : decode cX2_pass 155 = .ok (.iadd, 1) := dk_96 (dk_at dksX2_pass_6 16 rfl rfl)
theorem dX2_pass_156 : decode cX2_pass 156 = .ok (.bipush (-99), 2) := dk_16 157 (dk_at dksX2_pass_6 17 rfl rfl)
theorem dX2_pass_158 : decode cX2_pass 158 = .ok (.bipush 99, 2) := dk_16 99 (dk_at dksX2_pass_6 19 rfl rfl)
theorem dX2_pass_160 : decode cX2_pass 160 = .ok (.invokestatic 289, 3) := dk_184 1 33 (dk_at dksX2_pass_6 21 rfl rfl)
theorem dX2_pass_163 : decode cX2_pass 163 = .ok (.iastore, 1) := dk_79 (dk_at dksX2_pass_7 0 rfl rfl)
theorem dX2_pass_164 : decode cX2_pass 164 = .ok (.aload_n 0, 1) := dk_42 (dk_at dksX2_pass_7 1 rfl rfl)
theorem dX2_pass_165 : decode cX2_pass 165 = .ok (.getfield 7, 3) := dk_180 0 7 (dk_at dksX2_pass_7 2 rfl rfl)
theorem dX2_pass_168 : decode cX2_pass 168 = .ok (.bipush 10, 2) := dk_16 10 (dk_at dksX2_pass_7 5 rfl rfl)
theorem dX2_pass_170 : decode cX2_pass 170 = .ok (.aload_n 0, 1) := dk_42 (dk_at dksX2_pass_7 7 rfl rfl)
theorem dX2_pass_171 : decode cX2_pass 171 = .ok (.getfield 7, 3) := dk_180 0 7 (dk_at dksX2_pass_7 8 rfl rfl)
theorem dX2_pass_174 : decode cX2_pass 174 = .ok (.bipush 10, 2) := dk_16 10 (dk_at dksX2_pass_7 11 rfl rfl)
theorem dX2_pass_176 : decode cX2_pass 176 = .ok (.iaload, 1) := dk_46 (dk_at dksX2_pass_7 13 rfl rfl)
theorem dX2_pass_177 : decode cX2_pass 177 = .ok (.aload_n 0, 1) := dk_42 (dk_at dksX2_pass_7 14 rfl rfl)
theorem dX2_pass_178 : decode cX2_pass 178 = .ok (.getfield 7, 3) := dk_180 0 7 (dk_at dksX2_pass_7 15 rfl rfl)
theorem dX2_pass_181 : decode cX2_pass 181 = .ok (.bipush 11, 2) := dk_16 11 (dk_at dksX2_pass_7 18 rfl rfl)
theorem dX2_pass_183 : decode cX2_pass 183 = .ok (.iaload, 1) := dk_46 (dk_at dksX2_pass_7 20 rfl rfl)
theorem dX2_pass_184 : decode cX2_pass 184 = .ok (.iadd, 1) := dk_96 (dk_at dksX2_pass_7 21 rfl rfl)
theorem dX2_pass_185 : decode cX2_pass 185 = .ok (.sipush (-9999), 3) := dk_17 216 241 (dk_at dksX2_pass_8 0 rfl rfl)
theorem dX2_pass_188 : decode cX2_pass 188 = .ok (.sipush 9999, 3) := dk_17 39 15 (dk_at dksX2_pass_8 3 rfl rfl)
theorem dX2_pass_191 : decode cX2_pass 191 = .ok (.invokestatic 289, 3) := dk_184 1 33 (dk_at dksX2_pass_8 6 rfl rfl)
theorem dX2_pass_194 : decode cX2_pass 194 = .ok (.iastore, 1) := dk_79 (dk_at dksX2_pass_8 9 rfl rfl)
theorem dX2_pass_195 : decode cX2_pass 195 = .ok (.aload_n 0, 1) := dk_42 (dk_at dksX2_pass_8 10 rfl rfl)
theorem dX2_pass_196 : decode cX2_pass 196 = .ok (.getfield 317, 3) := dk_180 1 61 (dk_at dksX2_pass_8 11 rfl rfl)
theorem dX2_pass_199 : decode cX2_pass 199 = .ok (.ifCond .ne 57, 3) := dk_154 0 57 (dk_at dksX2_pass_8 14 rfl rfl)
theorem dX2_pass_202 : decode cX2_pass 202 = .ok (.aload_n 0, 1) := dk_42 (dk_at dksX2_pass_8 17 rfl rfl)
theorem dX2_pass_203 : decode cX2_pass 203 = .ok (.getfield 7, 3) := dk_180 0 7 (dk_at dksX2_pass_8 18 rfl rfl)
theorem dX2_pass_206 : decode cX2_pass 206 = .ok (.bipush 14, 2) := dk_16 14 (dk_at dksX2_pass_8 21 rfl rfl)
theorem dX2_pass_208 : decode cX2_pass 208 = .ok (.aload_n 0, 1) := dk_42 (dk_at dksX2_pass_8 23 rfl rfl)
theorem dX2_pass_209 : decode cX2_pass 209 = .ok (.getfield 7, 3) := dk_180 0 7 (dk_at dksX2_pass_9 0 rfl rfl)
theorem dX2_pass_212 : decode cX2_pass 212 = .ok (.bipush 16, 2) := dk_16 16 (dk_at dksX2_pass_9 3 rfl rfl)
theorem dX2_pass_214 : decode cX2_pass 214 = .ok (.iaload, 1) := dk_46 (dk_at dksX2_pass_9 5 rfl rfl)
theorem dX2_pass_215 : decode cX2_pass 215 = .ok (.iconst 1, 1) := dk_4 (dk_at dksX2_pass_9 6 rfl rfl)
theorem dX2_pass_216 : decode cX2_pass 216 = .ok (.iadd, 1) := dk_96 (dk_at dksX2_pass_9 7 rfl rfl)
theorem dX2_pass_217 : decode cX2_pass 217 = .ok (.bipush 40, 2) := dk_16 40 (dk_at dksX2_pass_9 8 rfl rfl)
theorem dX2_pass_219 : decode cX2_pass 219 = .ok (.irem, 1) := dk_112 (dk_at dksX2_pass_9 10 rfl rfl)
theorem dX2_pass_220 : decode cX2_pass 220 = .ok (.ifCond .ne 12, 3) := dk_154 0 12 (dk_at dksX2_pass_9 11 rfl rfl)
theorem dX2_pass_223 : decode cX2_pass 223 = .ok (.aload_n 0, 1) := dk_42 (dk_at dksX2_pass_9 14 rfl rfl)
theorem dX2_pass_224 : decode cX2_pass 224 = .ok (.bipush 10, 2) := dk_16 10 (dk_at dksX2_pass_9 15 rfl rfl)
theorem dX2_pass_226 : decode cX2_pass 226 = .ok (.invokevirtual 320, 3) := dk_182 1 64 (dk_at dksX2_pass_9 17 rfl rfl)
theorem dX2_pass_229 : decode cX2_pass 229 = .ok (.goto 26, 3) := dk_167 0 26 (dk_at dksX2_pass_9 20 rfl rfl)
theorem dX2_pass_232 : decode cX2_pass 232 = .ok (.aload_n 0, 1) := dk_42 (dk_at dksX2_pass_9 23 rfl rfl)
theorem dX2_pass_233 : decode cX2_pass 233 = .ok (.getfield 7, 3) := dk_180 0 7 (dk_at dksX2_pass_10 0 rfl rfl)
theorem dX2_pass_236 : decode cX2_pass 236 = .ok (.bipush 14, 2) := dk_16 14 (dk_at dksX2_pass_10 3 rfl rfl)
theorem dX2_pass_238 : decode cX2_pass 238 = .ok (.iaload, 1) := dk_46 (dk_at dksX2_pass_10 5 rfl rfl)
theorem dX2_pass_239 : decode cX2_pass 239 = .ok (.ifCond .le 15, 3) := dk_158 0 15 (dk_at dksX2_pass_10 6 rfl rfl)
theorem dX2_pass_242 : decode cX2_pass 242 = .ok (.aload_n 0, 1) := dk_42 (dk_at dksX2_pass_10 9 rfl rfl)
theorem dX2_pass_243 : decode cX2_pass 243 = .ok (.getfield 7, 3) := dk_180 0 7 (dk_at dksX2_pass_10 10 rfl rfl)
theorem dX2_pass_246 : decode cX2_pass 246 = .ok (.bipush 14, 2) := dk_16 14 (dk_at dksX2_pass_10 13 rfl rfl)
theorem dX2_pass_248 : decode cX2_pass 248 = .ok (.iaload, 1) := dk_46 (dk_at dksX2_pass_10 15 rfl rfl)
theorem dX2_pass_249 : decode cX2_pass 249 = .ok (.iconst 1, 1) := dk_4 (dk_at dksX2_pass_10 16 rfl rfl)
theorem dX2_pass_250 : decode cX2_pass 250 = .ok (.isub, 1) := dk_100 (dk_at dksX2_pass_10 17 rfl rfl)
theorem dX2_pass_251 : decode cX2_pass 251 = .ok (.goto 4, 3) := dk_167 0 4 (dk_at dksX2_pass_10 18 rfl rfl)
theorem dX2_pass_254 : decode cX2_pass 254 = .ok (.iconst 0, 1) := dk_3 (dk_at dksX2_pass_10 21 rfl rfl)
theorem dX2_pass_255 : decode cX2_pass 255 = .ok (.iastore, 1) := dk_79 (dk_at dksX2_pass_10 22 rfl rfl)
theorem dX2_pass_256 : decode cX2_pass 256 = .ok (.aload_n 0, 1) := dk_42 (dk_at dksX2_pass_10 23 rfl rfl)
theorem dX2_pass_257 : decode cX2_pass 257 = .ok (.getfield 7, 3) := dk_180 0 7 (dk_at dksX2_pass_11 0 rfl rfl)
theorem dX2_pass_260 : decode cX2_pass 260 = .ok (.bipush 16, 2) := dk_16 16 (dk_at dksX2_pass_11 3 rfl rfl)
theorem dX2_pass_262 : decode cX2_pass 262 = .ok (.dup2, 1) := dk_92 (dk_at dksX2_pass_11 5 rfl rfl)
theorem dX2_pass_263 : decode cX2_pass 263 = .ok (.iaload, 1) := dk_46 (dk_at dksX2_pass_11 6 rfl rfl)
theorem dX2_pass_264 : decode cX2_pass 264 = .ok (.iconst 1, 1) := dk_4 (dk_at dksX2_pass_11 7 rfl rfl)
theorem dX2_pass_265 : decode cX2_pass 265 = .ok (.iadd, 1) := dk_96 (dk_at dksX2_pass_11 8 rfl rfl)
theorem dX2_pass_266 : decode cX2_pass 266 = .ok (.iastore, 1) := dk_79 (dk_at dksX2_pass_11 9 rfl rfl)
theorem dX2_pass_267 : decode cX2_pass 267 = .ok (.return_, 1) := dk_177 (dk_at dksX2_pass_11 10 rfl rfl)
abbrev cX2_layPast : ByteArray := prog_19_method_71_code
def yX2_layPast : MethodName := ⟨RX2, "layPast", "(I)V"⟩
def dkwX2_layPast_4 : List UInt8 := [79, 42, 180, 0, 7, 28, 8, 96, 27, 79, 177]
abbrev dktX2_layPast_4 : List UInt8 := dkwX2_layPast_4 ++ []
def dkwX2_layPast_3 : List UInt8 := [46, 79, 42, 180, 0, 7, 28, 7, 96, 42, 180, 0, 7, 16, 15, 46, 42, 180, 0, 7, 16, 8, 46, 100]
abbrev dktX2_layPast_3 : List UInt8 := dkwX2_layPast_3 ++ dktX2_layPast_4
def dkwX2_layPast_2 : List UInt8 := [28, 5, 96, 42, 180, 0, 7, 16, 9, 46, 79, 42, 180, 0, 7, 28, 6, 96, 42, 180, 0, 7, 16, 14]
abbrev dktX2_layPast_2 : List UInt8 := dkwX2_layPast_2 ++ dktX2_layPast_3
def dkwX2_layPast_1 : List UInt8 := [42, 182, 1, 36, 79, 42, 180, 0, 7, 28, 4, 96, 42, 180, 0, 7, 16, 11, 46, 79, 42, 180, 0, 7]
abbrev dktX2_layPast_1 : List UInt8 := dkwX2_layPast_1 ++ dktX2_layPast_2
def dkwX2_layPast_0 : List UInt8 := [17, 2, 90, 16, 6, 42, 180, 0, 7, 16, 16, 46, 17, 6, 0, 112, 104, 96, 61, 42, 180, 0, 7, 28]
abbrev dktX2_layPast_0 : List UInt8 := dkwX2_layPast_0 ++ dktX2_layPast_1
theorem dksX2_layPast_0 : cX2_layPast.data.toList.drop 0 = dktX2_layPast_0 := by decide +kernel
theorem dksX2_layPast_1 : cX2_layPast.data.toList.drop 24 = dktX2_layPast_1 := dk_seg dksX2_layPast_0 24 rfl rfl
theorem dksX2_layPast_2 : cX2_layPast.data.toList.drop 48 = dktX2_layPast_2 := dk_seg dksX2_layPast_1 24 rfl rfl
theorem dksX2_layPast_3 : cX2_layPast.data.toList.drop 72 = dktX2_layPast_3 := dk_seg dksX2_layPast_2 24 rfl rfl
theorem dksX2_layPast_4 : cX2_layPast.data.toList.drop 96 = dktX2_layPast_4 := dk_seg dksX2_layPast_3 24 rfl rfl
theorem dX2_layPast_0 : decode cX2_layPast 0 = .ok (.sipush 602, 3) := dk_17 2 90 (dk_at dksX2_layPast_0 0 rfl rfl)
theorem dX2_layPast_3 : decode cX2_layPast 3 = .ok (.bipush 6, 2) := dk_16 6 (dk_at dksX2_layPast_0 3 rfl rfl)
theorem dX2_layPast_5 : decode cX2_layPast 5 = .ok (.aload_n 0, 1) := dk_42 (dk_at dksX2_layPast_0 5 rfl rfl)
theorem dX2_layPast_6 : decode cX2_layPast 6 = .ok (.getfield 7, 3) := dk_180 0 7 (dk_at dksX2_layPast_0 6 rfl rfl)
theorem dX2_layPast_9 : decode cX2_layPast 9 = .ok (.bipush 16, 2) := dk_16 16 (dk_at dksX2_layPast_0 9 rfl rfl)
theorem dX2_layPast_11 : decode cX2_layPast 11 = .ok (.iaload, 1) := dk_46 (dk_at dksX2_layPast_0 11 rfl rfl)
theorem dX2_layPast_12 : decode cX2_layPast 12 = .ok (.sipush 1536, 3) := dk_17 6 0 (dk_at dksX2_layPast_0 12 rfl rfl)
theorem dX2_layPast_15 : decode cX2_layPast 15 = .ok (.irem, 1) := dk_112 (dk_at dksX2_layPast_0 15 rfl rfl)
theorem dX2_layPast_16 : decode cX2_layPast 16 = .ok (.imul, 1) := dk_104 (dk_at dksX2_layPast_0 16 rfl rfl)
theorem dX2_layPast_17 : decode cX2_layPast 17 = .ok (.iadd, 1) := dk_96 (dk_at dksX2_layPast_0 17 rfl rfl)
theorem dX2_layPast_18 : decode cX2_layPast 18 = .ok (.istore_n 2, 1) := dk_61 (dk_at dksX2_layPast_0 18 rfl rfl)
theorem dX2_layPast_19 : decode cX2_layPast 19 = .ok (.aload_n 0, 1) := dk_42 (dk_at dksX2_layPast_0 19 rfl rfl)
theorem dX2_layPast_20 : decode cX2_layPast 20 = .ok (.getfield 7, 3) := dk_180 0 7 (dk_at dksX2_layPast_0 20 rfl rfl)
theorem dX2_layPast_23 : decode cX2_layPast 23 = .ok (.iload_n 2, 1) := dk_28 (dk_at dksX2_layPast_0 23 rfl rfl)
theorem dX2_layPast_24 : decode cX2_layPast 24 = .ok (.aload_n 0, 1) := dk_42 (dk_at dksX2_layPast_1 0 rfl rfl)
theorem dX2_layPast_25 : decode cX2_layPast 25 = .ok (.invokevirtual 292, 3) := dk_182 1 36 (dk_at dksX2_layPast_1 1 rfl rfl)
theorem dX2_layPast_28 : decode cX2_layPast 28 = .ok (.iastore, 1) := dk_79 (dk_at dksX2_layPast_1 4 rfl rfl)
theorem dX2_layPast_29 : decode cX2_layPast 29 = .ok (.aload_n 0, 1) := dk_42 (dk_at dksX2_layPast_1 5 rfl rfl)
theorem dX2_layPast_30 : decode cX2_layPast 30 = .ok (.getfield 7, 3) := dk_180 0 7 (dk_at dksX2_layPast_1 6 rfl rfl)
theorem dX2_layPast_33 : decode cX2_layPast 33 = .ok (.iload_n 2, 1) := dk_28 (dk_at dksX2_layPast_1 9 rfl rfl)
theorem dX2_layPast_34 : decode cX2_layPast 34 = .ok (.iconst 1, 1) := dk_4 (dk_at dksX2_layPast_1 10 rfl rfl)
theorem dX2_layPast_35 : decode cX2_layPast 35 = .ok (.iadd, 1) := dk_96 (dk_at dksX2_layPast_1 11 rfl rfl)
theorem dX2_layPast_36 : decode cX2_layPast 36 = .ok (.aload_n 0, 1) := dk_42 (dk_at dksX2_layPast_1 12 rfl rfl)
theorem dX2_layPast_37 : decode cX2_layPast 37 = .ok (.getfield 7, 3) := dk_180 0 7 (dk_at dksX2_layPast_1 13 rfl rfl)
theorem dX2_layPast_40 : decode cX2_layPast 40 = .ok (.bipush 11, 2) := dk_16 11 (dk_at dksX2_layPast_1 16 rfl rfl)
theorem dX2_layPast_42 : decode cX2_layPast 42 = .ok (.iaload, 1) := dk_46 (dk_at dksX2_layPast_1 18 rfl rfl)
theorem dX2_layPast_43 : decode cX2_layPast 43 = .ok (.iastore, 1) := dk_79 (dk_at dksX2_layPast_1 19 rfl rfl)
theorem dX2_layPast_44 : decode cX2_layPast 44 = .ok (.aload_n 0, 1) := dk_42 (dk_at dksX2_layPast_1 20 rfl rfl)
theorem dX2_layPast_45 : decode cX2_layPast 45 = .ok (.getfield 7, 3) := dk_180 0 7 (dk_at dksX2_layPast_1 21 rfl rfl)
theorem dX2_layPast_48 : decode cX2_layPast 48 = .ok (.iload_n 2, 1) := dk_28 (dk_at dksX2_layPast_2 0 rfl rfl)
theorem dX2_layPast_49 : decode cX2_layPast 49 = .ok (.iconst 2, 1) := dk_5 (dk_at dksX2_layPast_2 1 rfl rfl)
theorem dX2_layPast_50 : decode cX2_layPast 50 = .ok (.iadd, 1) := dk_96 (dk_at dksX2_layPast_2 2 rfl rfl)
theorem dX2_layPast_51 : decode cX2_layPast 51 = .ok (.aload_n 0, 1) := dk_42 (dk_at dksX2_layPast_2 3 rfl rfl)
theorem dX2_layPast_52 : decode cX2_layPast 52 = .ok (.getfield 7, 3) := dk_180 0 7 (dk_at dksX2_layPast_2 4 rfl rfl)
theorem dX2_layPast_55 : decode cX2_layPast 55 = .ok (.bipush 9, 2) := dk_16 9 (dk_at dksX2_layPast_2 7 rfl rfl)
theorem dX2_layPast_57 : decode cX2_layPast 57 = .ok (.iaload, 1) := dk_46 (dk_at dksX2_layPast_2 9 rfl rfl)
theorem dX2_layPast_58 : decode cX2_layPast 58 = .ok (.iastore, 1) := dk_79 (dk_at dksX2_layPast_2 10 rfl rfl)
theorem dX2_layPast_59 : decode cX2_layPast 59 = .ok (.aload_n 0, 1) := dk_42 (dk_at dksX2_layPast_2 11 rfl rfl)
theorem dX2_layPast_60 : decode cX2_layPast 60 = .ok (.getfield 7, 3) := dk_180 0 7 (dk_at dksX2_layPast_2 12 rfl rfl)
theorem dX2_layPast_63 : decode cX2_layPast 63 = .ok (.iload_n 2, 1) := dk_28 (dk_at dksX2_layPast_2 15 rfl rfl)
theorem dX2_layPast_64 : decode cX2_layPast 64 = .ok (.iconst 3, 1) := dk_6 (dk_at dksX2_layPast_2 16 rfl rfl)
theorem dX2_layPast_65 : decode cX2_layPast 65 = .ok (.iadd, 1) := dk_96 (dk_at dksX2_layPast_2 17 rfl rfl)
theorem dX2_layPast_66 : decode cX2_layPast 66 = .ok (.aload_n 0, 1) := dk_42 (dk_at dksX2_layPast_2 18 rfl rfl)
theorem dX2_layPast_67 : decode cX2_layPast 67 = .ok (.getfield 7, 3) := dk_180 0 7 (dk_at dksX2_layPast_2 19 rfl rfl)
theorem dX2_layPast_70 : decode cX2_layPast 70 = .ok (.bipush 14, 2) := dk_16 14 (dk_at dksX2_layPast_2 22 rfl rfl)
theorem dX2_layPast_72 : decode cX2_layPast 72 = .ok (.iaload, 1) := dk_46 (dk_at dksX2_layPast_3 0 rfl rfl)
theorem dX2_layPast_73 : decode cX2_layPast 73 = .ok (.iastore, 1) := dk_79 (dk_at dksX2_layPast_3 1 rfl rfl)
theorem dX2_layPast_74 : decode cX2_layPast 74 = .ok (.aload_n 0, 1) := dk_42 (dk_at dksX2_layPast_3 2 rfl rfl)
theorem dX2_layPast_75 : decode cX2_layPast 75 = .ok (.getfield 7, 3) := dk_180 0 7 (dk_at dksX2_layPast_3 3 rfl rfl)
theorem dX2_layPast_78 : decode cX2_layPast 78 = .ok (.iload_n 2, 1) := dk_28 (dk_at dksX2_layPast_3 6 rfl rfl)
theorem dX2_layPast_79 : decode cX2_layPast 79 = .ok (.iconst 4, 1) := dk_7 (dk_at dksX2_layPast_3 7 rfl rfl)
theorem dX2_layPast_80 : decode cX2_layPast 80 = .ok (.iadd, 1) := dk_96 (dk_at dksX2_layPast_3 8 rfl rfl)
theorem dX2_layPast_81 : decode cX2_layPast 81 = .ok (.aload_n 0, 1) := dk_42 (dk_at dksX2_layPast_3 9 rfl rfl)
theorem dX2_layPast_82 : decode cX2_layPast 82 = .ok (.getfield 7, 3) := dk_180 0 7 (dk_at dksX2_layPast_3 10 rfl rfl)
theorem dX2_layPast_85 : decode cX2_layPast 85 = .ok (.bipush 15, 2) := dk_16 15 (dk_at dksX2_layPast_3 13 rfl rfl)
theorem dX2_layPast_87 : decode cX2_layPast 87 = .ok (.iaload, 1) := dk_46 (dk_at dksX2_layPast_3 15 rfl rfl)
theorem dX2_layPast_88 : decode cX2_layPast 88 = .ok (.aload_n 0, 1) := dk_42 (dk_at dksX2_layPast_3 16 rfl rfl)
theorem dX2_layPast_89 : decode cX2_layPast 89 = .ok (.getfield 7, 3) := dk_180 0 7 (dk_at dksX2_layPast_3 17 rfl rfl)
theorem dX2_layPast_92 : decode cX2_layPast 92 = .ok (.bipush 8, 2) := dk_16 8 (dk_at dksX2_layPast_3 20 rfl rfl)
theorem dX2_layPast_94 : decode cX2_layPast 94 = .ok (.iaload, 1) := dk_46 (dk_at dksX2_layPast_3 22 rfl rfl)
theorem dX2_layPast_95 : decode cX2_layPast 95 = .ok (.isub, 1) := dk_100 (dk_at dksX2_layPast_3 23 rfl rfl)
theorem dX2_layPast_96 : decode cX2_layPast 96 = .ok (.iastore, 1) := dk_79 (dk_at dksX2_layPast_4 0 rfl rfl)
theorem dX2_layPast_97 : decode cX2_layPast 97 = .ok (.aload_n 0, 1) := dk_42 (dk_at dksX2_layPast_4 1 rfl rfl)
theorem dX2_layPast_98 : decode cX2_layPast 98 = .ok (.getfield 7, 3) := dk_180 0 7 (dk_at dksX2_layPast_4 2 rfl rfl)
theorem dX2_layPast_101 : decode cX2_layPast 101 = .ok (.iload_n 2, 1) := dk_28 (dk_at dksX2_layPast_4 5 rfl rfl)
theorem dX2_layPast_102 : decode cX2_layPast 102 = .ok (.iconst 5, 1) := dk_8 (dk_at dksX2_layPast_4 6 rfl rfl)
theorem dX2_layPast_103 : decode cX2_layPast 103 = .ok (.iadd, 1) := dk_96 (dk_at dksX2_layPast_4 7 rfl rfl)
theorem dX2_layPast_104 : decode cX2_layPast 104 = .ok (.iload_n 1, 1) := dk_27 (dk_at dksX2_layPast_4 8 rfl rfl)
theorem dX2_layPast_105 : decode cX2_layPast 105 = .ok (.iastore, 1) := dk_79 (dk_at dksX2_layPast_4 9 rfl rfl)
theorem dX2_layPast_106 : decode cX2_layPast 106 = .ok (.return_, 1) := dk_177 (dk_at dksX2_layPast_4 10 rfl rfl)
abbrev cX2_away : ByteArray := prog_19_method_64_code
def yX2_away : MethodName := ⟨RX2, "away", "()I"⟩
def dkwX2_away_0 : List UInt8 := [42, 180, 0, 7, 16, 8, 46, 42, 180, 0, 7, 16, 10, 46, 100, 172]
abbrev dktX2_away_0 : List UInt8 := dkwX2_away_0 ++ []
theorem dksX2_away_0 : cX2_away.data.toList.drop 0 = dktX2_away_0 := by decide +kernel
theorem dX2_away_0 : decode cX2_away 0 = .ok (.aload_n 0, 1) := dk_42 (dk_at dksX2_away_0 0 rfl rfl)
theorem dX2_away_1 : decode cX2_away 1 = .ok (.getfield 7, 3) := dk_180 0 7 (dk_at dksX2_away_0 1 rfl rfl)
theorem dX2_away_4 : decode cX2_away 4 = .ok (.bipush 8, 2) := dk_16 8 (dk_at dksX2_away_0 4 rfl rfl)
theorem dX2_away_6 : decode cX2_away 6 = .ok (.iaload, 1) := dk_46 (dk_at dksX2_away_0 6 rfl rfl)
theorem dX2_away_7 : decode cX2_away 7 = .ok (.aload_n 0, 1) := dk_42 (dk_at dksX2_away_0 7 rfl rfl)
theorem dX2_away_8 : decode cX2_away 8 = .ok (.getfield 7, 3) := dk_180 0 7 (dk_at dksX2_away_0 8 rfl rfl)
theorem dX2_away_11 : decode cX2_away 11 = .ok (.bipush 10, 2) := dk_16 10 (dk_at dksX2_away_0 11 rfl rfl)
theorem dX2_away_13 : decode cX2_away 13 = .ok (.iaload, 1) := dk_46 (dk_at dksX2_away_0 13 rfl rfl)
theorem dX2_away_14 : decode cX2_away 14 = .ok (.isub, 1) := dk_100 (dk_at dksX2_away_0 14 rfl rfl)
theorem dX2_away_15 : decode cX2_away 15 = .ok (.ireturn, 1) := dk_172 (dk_at dksX2_away_0 15 rfl rfl)
abbrev cX2_nameNow : ByteArray := prog_19_method_65_code
def yX2_nameNow : MethodName := ⟨RX2, "nameNow", "()V"⟩
def dkwX2_nameNow_5 : List UInt8 := [162, 0, 7, 3, 167, 0, 13, 42, 180, 0, 7, 16, 16, 46, 16, 60, 100, 181, 1, 10, 177]
abbrev dktX2_nameNow_5 : List UInt8 := dkwX2_nameNow_5 ++ []
def dkwX2_nameNow_4 : List UInt8 := [46, 79, 42, 42, 180, 0, 7, 16, 16, 46, 181, 1, 7, 42, 42, 180, 0, 7, 16, 16, 46, 16, 60]
abbrev dktX2_nameNow_4 : List UInt8 := dkwX2_nameNow_4 ++ dktX2_nameNow_5
def dkwX2_nameNow_3 : List UInt8 := [180, 0, 32, 8, 42, 180, 0, 7, 16, 12, 46, 79, 42, 180, 0, 32, 16, 6, 42, 180, 0, 7, 16, 13]
abbrev dktX2_nameNow_3 : List UInt8 := dkwX2_nameNow_3 ++ dktX2_nameNow_4
def dkwX2_nameNow_2 : List UInt8 := [79, 42, 180, 0, 32, 7, 42, 180, 0, 7, 16, 15, 46, 42, 180, 0, 7, 16, 8, 46, 100, 79, 42]
abbrev dktX2_nameNow_2 : List UInt8 := dkwX2_nameNow_2 ++ dktX2_nameNow_3
def dkwX2_nameNow_1 : List UInt8 := [180, 0, 32, 5, 42, 180, 0, 7, 16, 9, 46, 79, 42, 180, 0, 32, 6, 42, 180, 0, 7, 16, 14, 46]
abbrev dktX2_nameNow_1 : List UInt8 := dkwX2_nameNow_1 ++ dktX2_nameNow_2
def dkwX2_nameNow_0 : List UInt8 := [42, 180, 0, 32, 3, 42, 182, 1, 36, 79, 42, 180, 0, 32, 4, 42, 180, 0, 7, 16, 11, 46, 79, 42]
abbrev dktX2_nameNow_0 : List UInt8 := dkwX2_nameNow_0 ++ dktX2_nameNow_1
theorem dksX2_nameNow_0 : cX2_nameNow.data.toList.drop 0 = dktX2_nameNow_0 := by decide +kernel
theorem dksX2_nameNow_1 : cX2_nameNow.data.toList.drop 24 = dktX2_nameNow_1 := dk_seg dksX2_nameNow_0 24 rfl rfl
theorem dksX2_nameNow_2 : cX2_nameNow.data.toList.drop 48 = dktX2_nameNow_2 := dk_seg dksX2_nameNow_1 24 rfl rfl
theorem dksX2_nameNow_3 : cX2_nameNow.data.toList.drop 71 = dktX2_nameNow_3 := dk_seg dksX2_nameNow_2 23 rfl rfl
theorem dksX2_nameNow_4 : cX2_nameNow.data.toList.drop 95 = dktX2_nameNow_4 := dk_seg dksX2_nameNow_3 24 rfl rfl
theorem dksX2_nameNow_5 : cX2_nameNow.data.toList.drop 118 = dktX2_nameNow_5 := dk_seg dksX2_nameNow_4 23 rfl rfl
theorem dX2_nameNow_0 : decode cX2_nameNow 0 = .ok (.aload_n 0, 1) := dk_42 (dk_at dksX2_nameNow_0 0 rfl rfl)
theorem dX2_nameNow_1 : decode cX2_nameNow 1 = .ok (.getfield 32, 3) := dk_180 0 32 (dk_at dksX2_nameNow_0 1 rfl rfl)
theorem dX2_nameNow_4 : decode cX2_nameNow 4 = .ok (.iconst 0, 1) := dk_3 (dk_at dksX2_nameNow_0 4 rfl rfl)
theorem dX2_nameNow_5 : decode cX2_nameNow 5 = .ok (.aload_n 0, 1) := dk_42 (dk_at dksX2_nameNow_0 5 rfl rfl)
theorem dX2_nameNow_6 : decode cX2_nameNow 6 = .ok (.invokevirtual 292, 3) := dk_182 1 36 (dk_at dksX2_nameNow_0 6 rfl rfl)
theorem dX2_nameNow_9 : decode cX2_nameNow 9 = .ok (.iastore, 1) := dk_79 (dk_at dksX2_nameNow_0 9 rfl rfl)
theorem dX2_nameNow_10 : decode cX2_nameNow 10 = .ok (.aload_n 0, 1) := dk_42 (dk_at dksX2_nameNow_0 10 rfl rfl)
theorem dX2_nameNow_11 : decode cX2_nameNow 11 = .ok (.getfield 32, 3) := dk_180 0 32 (dk_at dksX2_nameNow_0 11 rfl rfl)
theorem dX2_nameNow_14 : decode cX2_nameNow 14 = .ok (.iconst 1, 1) := dk_4 (dk_at dksX2_nameNow_0 14 rfl rfl)
theorem dX2_nameNow_15 : decode cX2_nameNow 15 = .ok (.aload_n 0, 1) := dk_42 (dk_at dksX2_nameNow_0 15 rfl rfl)
theorem dX2_nameNow_16 : decode cX2_nameNow 16 = .ok (.getfield 7, 3) := dk_180 0 7 (dk_at dksX2_nameNow_0 16 rfl rfl)
theorem dX2_nameNow_19 : decode cX2_nameNow 19 = .ok (.bipush 11, 2) := dk_16 11 (dk_at dksX2_nameNow_0 19 rfl rfl)
theorem dX2_nameNow_21 : decode cX2_nameNow 21 = .ok (.iaload, 1) := dk_46 (dk_at dksX2_nameNow_0 21 rfl rfl)
theorem dX2_nameNow_22 : decode cX2_nameNow 22 = .ok (.iastore, 1) := dk_79 (dk_at dksX2_nameNow_0 22 rfl rfl)
theorem dX2_nameNow_23 : decode cX2_nameNow 23 = .ok (.aload_n 0, 1) := dk_42 (dk_at dksX2_nameNow_0 23 rfl rfl)
theorem dX2_nameNow_24 : decode cX2_nameNow 24 = .ok (.getfield 32, 3) := dk_180 0 32 (dk_at dksX2_nameNow_1 0 rfl rfl)
theorem dX2_nameNow_27 : decode cX2_nameNow 27 = .ok (.iconst 2, 1) := dk_5 (dk_at dksX2_nameNow_1 3 rfl rfl)
theorem dX2_nameNow_28 : decode cX2_nameNow 28 = .ok (.aload_n 0, 1) := dk_42 (dk_at dksX2_nameNow_1 4 rfl rfl)
theorem dX2_nameNow_29 : decode cX2_nameNow 29 = .ok (.getfield 7, 3) := dk_180 0 7 (dk_at dksX2_nameNow_1 5 rfl rfl)
theorem dX2_nameNow_32 : decode cX2_nameNow 32 = .ok (.bipush 9, 2) := dk_16 9 (dk_at dksX2_nameNow_1 8 rfl rfl)
theorem dX2_nameNow_34 : decode cX2_nameNow 34 = .ok (.iaload, 1) := dk_46 (dk_at dksX2_nameNow_1 10 rfl rfl)
theorem dX2_nameNow_35 : decode cX2_nameNow 35 = .ok (.iastore, 1) := dk_79 (dk_at dksX2_nameNow_1 11 rfl rfl)
theorem dX2_nameNow_36 : decode cX2_nameNow 36 = .ok (.aload_n 0, 1) := dk_42 (dk_at dksX2_nameNow_1 12 rfl rfl)
theorem dX2_nameNow_37 : decode cX2_nameNow 37 = .ok (.getfield 32, 3) := dk_180 0 32 (dk_at dksX2_nameNow_1 13 rfl rfl)
theorem dX2_nameNow_40 : decode cX2_nameNow 40 = .ok (.iconst 3, 1) := dk_6 (dk_at dksX2_nameNow_1 16 rfl rfl)
theorem dX2_nameNow_41 : decode cX2_nameNow 41 = .ok (.aload_n 0, 1) := dk_42 (dk_at dksX2_nameNow_1 17 rfl rfl)
theorem dX2_nameNow_42 : decode cX2_nameNow 42 = .ok (.getfield 7, 3) := dk_180 0 7 (dk_at dksX2_nameNow_1 18 rfl rfl)
theorem dX2_nameNow_45 : decode cX2_nameNow 45 = .ok (.bipush 14, 2) := dk_16 14 (dk_at dksX2_nameNow_1 21 rfl rfl)
theorem dX2_nameNow_47 : decode cX2_nameNow 47 = .ok (.iaload, 1) := dk_46 (dk_at dksX2_nameNow_1 23 rfl rfl)
theorem dX2_nameNow_48 : decode cX2_nameNow 48 = .ok (.iastore, 1) := dk_79 (dk_at dksX2_nameNow_2 0 rfl rfl)
theorem dX2_nameNow_49 : decode cX2_nameNow 49 = .ok (.aload_n 0, 1) := dk_42 (dk_at dksX2_nameNow_2 1 rfl rfl)
theorem dX2_nameNow_50 : decode cX2_nameNow 50 = .ok (.getfield 32, 3) := dk_180 0 32 (dk_at dksX2_nameNow_2 2 rfl rfl)
theorem dX2_nameNow_53 : decode cX2_nameNow 53 = .ok (.iconst 4, 1) := dk_7 (dk_at dksX2_nameNow_2 5 rfl rfl)
theorem dX2_nameNow_54 : decode cX2_nameNow 54 = .ok (.aload_n 0, 1) := dk_42 (dk_at dksX2_nameNow_2 6 rfl rfl)
theorem dX2_nameNow_55 : decode cX2_nameNow 55 = .ok (.getfield 7, 3) := dk_180 0 7 (dk_at dksX2_nameNow_2 7 rfl rfl)
theorem dX2_nameNow_58 : decode cX2_nameNow 58 = .ok (.bipush 15, 2) := dk_16 15 (dk_at dksX2_nameNow_2 10 rfl rfl)
theorem dX2_nameNow_60 : decode cX2_nameNow 60 = .ok (.iaload, 1) := dk_46 (dk_at dksX2_nameNow_2 12 rfl rfl)
theorem dX2_nameNow_61 : decode cX2_nameNow 61 = .ok (.aload_n 0, 1) := dk_42 (dk_at dksX2_nameNow_2 13 rfl rfl)
theorem dX2_nameNow_62 : decode cX2_nameNow 62 = .ok (.getfield 7, 3) := dk_180 0 7 (dk_at dksX2_nameNow_2 14 rfl rfl)
theorem dX2_nameNow_65 : decode cX2_nameNow 65 = .ok (.bipush 8, 2) := dk_16 8 (dk_at dksX2_nameNow_2 17 rfl rfl)
theorem dX2_nameNow_67 : decode cX2_nameNow 67 = .ok (.iaload, 1) := dk_46 (dk_at dksX2_nameNow_2 19 rfl rfl)
theorem dX2_nameNow_68 : decode cX2_nameNow 68 = .ok (.isub, 1) := dk_100 (dk_at dksX2_nameNow_2 20 rfl rfl)
theorem dX2_nameNow_69 : decode cX2_nameNow 69 = .ok (.iastore, 1) := dk_79 (dk_at dksX2_nameNow_2 21 rfl rfl)
theorem dX2_nameNow_70 : decode cX2_nameNow 70 = .ok (.aload_n 0, 1) := dk_42 (dk_at dksX2_nameNow_2 22 rfl rfl)
theorem dX2_nameNow_71 : decode cX2_nameNow 71 = .ok (.getfield 32, 3) := dk_180 0 32 (dk_at dksX2_nameNow_3 0 rfl rfl)
theorem dX2_nameNow_74 : decode cX2_nameNow 74 = .ok (.iconst 5, 1) := dk_8 (dk_at dksX2_nameNow_3 3 rfl rfl)
theorem dX2_nameNow_75 : decode cX2_nameNow 75 = .ok (.aload_n 0, 1) := dk_42 (dk_at dksX2_nameNow_3 4 rfl rfl)
theorem dX2_nameNow_76 : decode cX2_nameNow 76 = .ok (.getfield 7, 3) := dk_180 0 7 (dk_at dksX2_nameNow_3 5 rfl rfl)
theorem dX2_nameNow_79 : decode cX2_nameNow 79 = .ok (.bipush 12, 2) := dk_16 12 (dk_at dksX2_nameNow_3 8 rfl rfl)
theorem dX2_nameNow_81 : decode cX2_nameNow 81 = .ok (.iaload, 1) := dk_46 (dk_at dksX2_nameNow_3 10 rfl rfl)
theorem dX2_nameNow_82 : decode cX2_nameNow 82 = .ok (.iastore, 1) := dk_79 (dk_at dksX2_nameNow_3 11 rfl rfl)
theorem dX2_nameNow_83 : decode cX2_nameNow 83 = .ok (.aload_n 0, 1) := dk_42 (dk_at dksX2_nameNow_3 12 rfl rfl)
theorem dX2_nameNow_84 : decode cX2_nameNow 84 = .ok (.getfield 32, 3) := dk_180 0 32 (dk_at dksX2_nameNow_3 13 rfl rfl)
theorem dX2_nameNow_87 : decode cX2_nameNow 87 = .ok (.bipush 6, 2) := dk_16 6 (dk_at dksX2_nameNow_3 16 rfl rfl)
theorem dX2_nameNow_89 : decode cX2_nameNow 89 = .ok (.aload_n 0, 1) := dk_42 (dk_at dksX2_nameNow_3 18 rfl rfl)
theorem dX2_nameNow_90 : decode cX2_nameNow 90 = .ok (.getfield 7, 3) := dk_180 0 7 (dk_at dksX2_nameNow_3 19 rfl rfl)
theorem dX2_nameNow_93 : decode cX2_nameNow 93 = .ok (.bipush 13, 2) := dk_16 13 (dk_at dksX2_nameNow_3 22 rfl rfl)
theorem dX2_nameNow_95 : decode cX2_nameNow 95 = .ok (.iaload, 1) := dk_46 (dk_at dksX2_nameNow_4 0 rfl rfl)
theorem dX2_nameNow_96 : decode cX2_nameNow 96 = .ok (.iastore, 1) := dk_79 (dk_at dksX2_nameNow_4 1 rfl rfl)
theorem dX2_nameNow_97 : decode cX2_nameNow 97 = .ok (.aload_n 0, 1) := dk_42 (dk_at dksX2_nameNow_4 2 rfl rfl)
theorem dX2_nameNow_98 : decode cX2_nameNow 98 = .ok (.aload_n 0, 1) := dk_42 (dk_at dksX2_nameNow_4 3 rfl rfl)
theorem dX2_nameNow_99 : decode cX2_nameNow 99 = .ok (.getfield 7, 3) := dk_180 0 7 (dk_at dksX2_nameNow_4 4 rfl rfl)
theorem dX2_nameNow_102 : decode cX2_nameNow 102 = .ok (.bipush 16, 2) := dk_16 16 (dk_at dksX2_nameNow_4 7 rfl rfl)
theorem dX2_nameNow_104 : decode cX2_nameNow 104 = .ok (.iaload, 1) := dk_46 (dk_at dksX2_nameNow_4 9 rfl rfl)
theorem dX2_nameNow_105 : decode cX2_nameNow 105 = .ok (.putfield 263, 3) := dk_181 1 7 (dk_at dksX2_nameNow_4 10 rfl rfl)
theorem dX2_nameNow_108 : decode cX2_nameNow 108 = .ok (.aload_n 0, 1) := dk_42 (dk_at dksX2_nameNow_4 13 rfl rfl)
theorem dX2_nameNow_109 : decode cX2_nameNow 109 = .ok (.aload_n 0, 1) := dk_42 (dk_at dksX2_nameNow_4 14 rfl rfl)
theorem dX2_nameNow_110 : decode cX2_nameNow 110 = .ok (.getfield 7, 3) := dk_180 0 7 (dk_at dksX2_nameNow_4 15 rfl rfl)
theorem dX2_nameNow_113 : decode cX2_nameNow 113 = .ok (.bipush 16, 2) := dk_16 16 (dk_at dksX2_nameNow_4 18 rfl rfl)
theorem dX2_nameNow_115 : decode cX2_nameNow 115 = .ok (.iaload, 1) := dk_46 (dk_at dksX2_nameNow_4 20 rfl rfl)
theorem dX2_nameNow_116 : decode cX2_nameNow 116 = .ok (.bipush 60, 2) := dk_16 60 (dk_at dksX2_nameNow_4 21 rfl rfl)
theorem dX2_nameNow_118 : decode cX2_nameNow 118 = .ok (.if_icmp .ge 7, 3) := dk_162 0 7 (dk_at dksX2_nameNow_5 0 rfl rfl)
theorem dX2_nameNow_121 : decode cX2_nameNow 121 = .ok (.iconst 0, 1) := dk_3 (dk_at dksX2_nameNow_5 3 rfl rfl)
theorem dX2_nameNow_122 : decode cX2_nameNow 122 = .ok (.goto 13, 3) := dk_167 0 13 (dk_at dksX2_nameNow_5 4 rfl rfl)
theorem dX2_nameNow_125 : decode cX2_nameNow 125 = .ok (.aload_n 0, 1) := dk_42 (dk_at dksX2_nameNow_5 7 rfl rfl)
theorem dX2_nameNow_126 : decode cX2_nameNow 126 = .ok (.getfield 7, 3) := dk_180 0 7 (dk_at dksX2_nameNow_5 8 rfl rfl)
theorem dX2_nameNow_129 : decode cX2_nameNow 129 = .ok (.bipush 16, 2) := dk_16 16 (dk_at dksX2_nameNow_5 11 rfl rfl)
theorem dX2_nameNow_131 : decode cX2_nameNow 131 = .ok (.iaload, 1) := dk_46 (dk_at dksX2_nameNow_5 13 rfl rfl)
theorem dX2_nameNow_132 : decode cX2_nameNow 132 = .ok (.bipush 60, 2) := dk_16 60 (dk_at dksX2_nameNow_5 14 rfl rfl)
theorem dX2_nameNow_134 : decode cX2_nameNow 134 = .ok (.isub, 1) := dk_100 (dk_at dksX2_nameNow_5 16 rfl rfl)
theorem dX2_nameNow_135 : decode cX2_nameNow 135 = .ok (.putfield 266, 3) := dk_181 1 10 (dk_at dksX2_nameNow_5 17 rfl rfl)
theorem dX2_nameNow_138 : decode cX2_nameNow 138 = .ok (.return_, 1) := dk_177 (dk_at dksX2_nameNow_5 20 rfl rfl)
abbrev cX2_says : ByteArray := prog_19_method_63_code
def yX2_says : MethodName := ⟨RX2, "says", "(IIII)I"⟩
def dkwX2_says_1 : List UInt8 := [180, 0, 7, 7, 46, 21, 5, 182, 1, 30, 29, 21, 4, 184, 1, 33, 172]
abbrev dktX2_says_1 : List UInt8 := dkwX2_says_1 ++ []
def dkwX2_says_0 : List UInt8 := [42, 42, 180, 0, 7, 7, 46, 27, 182, 1, 27, 54, 5, 21, 5, 156, 0, 7, 28, 167, 0, 21, 42, 42]
abbrev dktX2_says_0 : List UInt8 := dkwX2_says_0 ++ dktX2_says_1
theorem dksX2_says_0 : cX2_says.data.toList.drop 0 = dktX2_says_0 := by decide +kernel
theorem dksX2_says_1 : cX2_says.data.toList.drop 24 = dktX2_says_1 := dk_seg dksX2_says_0 24 rfl rfl
theorem dX2_says_0 : decode cX2_says 0 = .ok (.aload_n 0, 1) := dk_42 (dk_at dksX2_says_0 0 rfl rfl)
theorem dX2_says_1 : decode cX2_says 1 = .ok (.aload_n 0, 1) := dk_42 (dk_at dksX2_says_0 1 rfl rfl)
theorem dX2_says_2 : decode cX2_says 2 = .ok (.getfield 7, 3) := dk_180 0 7 (dk_at dksX2_says_0 2 rfl rfl)
theorem dX2_says_5 : decode cX2_says 5 = .ok (.iconst 4, 1) := dk_7 (dk_at dksX2_says_0 5 rfl rfl)
theorem dX2_says_6 : decode cX2_says 6 = .ok (.iaload, 1) := dk_46 (dk_at dksX2_says_0 6 rfl rfl)
theorem dX2_says_7 : decode cX2_says 7 = .ok (.iload_n 1, 1) := dk_27 (dk_at dksX2_says_0 7 rfl rfl)
theorem dX2_says_8 : decode cX2_says 8 = .ok (.invokevirtual 283, 3) := dk_182 1 27 (dk_at dksX2_says_0 8 rfl rfl)
theorem dX2_says_11 : decode cX2_says 11 = .ok (.istore 5, 2) := dk_54 5 (dk_at dksX2_says_0 11 rfl rfl)
theorem dX2_says_13 : decode cX2_says 13 = .ok (.iload 5, 2) := dk_21 5 (dk_at dksX2_says_0 13 rfl rfl)
theorem dX2_says_15 : decode cX2_says 15 = .ok (.ifCond .ge 7, 3) := dk_156 0 7 (dk_at dksX2_says_0 15 rfl rfl)
theorem dX2_says_18 : decode cX2_says 18 = .ok (.iload_n 2, 1) := dk_28 (dk_at dksX2_says_0 18 rfl rfl)
theorem dX2_says_19 : decode cX2_says 19 = .ok (.goto 21, 3) := dk_167 0 21 (dk_at dksX2_says_0 19 rfl rfl)
theorem dX2_says_22 : decode cX2_says 22 = .ok (.aload_n 0, 1) := dk_42 (dk_at dksX2_says_0 22 rfl rfl)
theorem dX2_says_23 : decode cX2_says 23 = .ok (.aload_n 0, 1) := dk_42 (dk_at dksX2_says_0 23 rfl rfl)
theorem dX2_says_24 : decode cX2_says 24 = .ok (.getfield 7, 3) := dk_180 0 7 (dk_at dksX2_says_1 0 rfl rfl)
theorem dX2_says_27 : decode cX2_says 27 = .ok (.iconst 4, 1) := dk_7 (dk_at dksX2_says_1 3 rfl rfl)
theorem dX2_says_28 : decode cX2_says 28 = .ok (.iaload, 1) := dk_46 (dk_at dksX2_says_1 4 rfl rfl)
theorem dX2_says_29 : decode cX2_says 29 = .ok (.iload 5, 2) := dk_21 5 (dk_at dksX2_says_1 5 rfl rfl)
theorem dX2_says_31 : decode cX2_says 31 = .ok (.invokevirtual 286, 3) := dk_182 1 30 (dk_at dksX2_says_1 7 rfl rfl)
theorem dX2_says_34 : decode cX2_says 34 = .ok (.iload_n 3, 1) := dk_29 (dk_at dksX2_says_1 10 rfl rfl)
theorem dX2_says_35 : decode cX2_says 35 = .ok (.iload 4, 2) := dk_21 4 (dk_at dksX2_says_1 11 rfl rfl)
theorem dX2_says_37 : decode cX2_says 37 = .ok (.invokestatic 289, 3) := dk_184 1 33 (dk_at dksX2_says_1 13 rfl rfl)
theorem dX2_says_40 : decode cX2_says 40 = .ok (.ireturn, 1) := dk_172 (dk_at dksX2_says_1 16 rfl rfl)
abbrev cX2_clauseOf : ByteArray := prog_19_method_62_code
def yX2_clauseOf : MethodName := ⟨RX2, "clauseOf", "(II)I"⟩
def dkwX2_clauseOf_2 : List UInt8 := [167, 255, 212, 2, 172]
abbrev dktX2_clauseOf_2 : List UInt8 := dkwX2_clauseOf_2 ++ []
def dkwX2_clauseOf_1 : List UInt8 := [17, 2, 241, 27, 104, 4, 96, 16, 6, 29, 104, 96, 46, 28, 160, 0, 5, 29, 172, 132, 3, 1]
abbrev dktX2_clauseOf_1 : List UInt8 := dkwX2_clauseOf_1 ++ dktX2_clauseOf_2
def dkwX2_clauseOf_0 : List UInt8 := [3, 62, 27, 155, 0, 46, 29, 42, 180, 0, 16, 17, 2, 241, 27, 104, 46, 162, 0, 32, 42, 180, 0, 16]
abbrev dktX2_clauseOf_0 : List UInt8 := dkwX2_clauseOf_0 ++ dktX2_clauseOf_1
theorem dksX2_clauseOf_0 : cX2_clauseOf.data.toList.drop 0 = dktX2_clauseOf_0 := by decide +kernel
theorem dksX2_clauseOf_1 : cX2_clauseOf.data.toList.drop 24 = dktX2_clauseOf_1 := dk_seg dksX2_clauseOf_0 24 rfl rfl
theorem dksX2_clauseOf_2 : cX2_clauseOf.data.toList.drop 46 = dktX2_clauseOf_2 := dk_seg dksX2_clauseOf_1 22 rfl rfl
theorem dX2_clauseOf_0 : decode cX2_clauseOf 0 = .ok (.iconst 0, 1) := dk_3 (dk_at dksX2_clauseOf_0 0 rfl rfl)
theorem dX2_clauseOf_1 : decode cX2_clauseOf 1 = .ok (.istore_n 3, 1) := dk_62 (dk_at dksX2_clauseOf_0 1 rfl rfl)
theorem dX2_clauseOf_2 : decode cX2_clauseOf 2 = .ok (.iload_n 1, 1) := dk_27 (dk_at dksX2_clauseOf_0 2 rfl rfl)
theorem dX2_clauseOf_3 : decode cX2_clauseOf 3 = .ok (.ifCond .lt 46, 3) := dk_155 0 46 (dk_at dksX2_clauseOf_0 3 rfl rfl)
theorem dX2_clauseOf_6 : decode cX2_clauseOf 6 = .ok (.iload_n 3, 1) := dk_29 (dk_at dksX2_clauseOf_0 6 rfl rfl)
theorem dX2_clauseOf_7 : decode cX2_clauseOf 7 = .ok (.aload_n 0, 1) := dk_42 (dk_at dksX2_clauseOf_0 7 rfl rfl)
theorem dX2_clauseOf_8 : decode cX2_clauseOf 8 = .ok (.getfield 16, 3) := dk_180 0 16 (dk_at dksX2_clauseOf_0 8 rfl rfl)
theorem dX2_clauseOf_11 : decode cX2_clauseOf 11 = .ok (.sipush 753, 3) := dk_17 2 241 (dk_at dksX2_clauseOf_0 11 rfl rfl)
theorem dX2_clauseOf_14 : decode cX2_clauseOf 14 = .ok (.iload_n 1, 1) := dk_27 (dk_at dksX2_clauseOf_0 14 rfl rfl)
theorem dX2_clauseOf_15 : decode cX2_clauseOf 15 = .ok (.imul, 1) := dk_104 (dk_at dksX2_clauseOf_0 15 rfl rfl)
theorem dX2_clauseOf_16 : decode cX2_clauseOf 16 = .ok (.iaload, 1) := dk_46 (dk_at dksX2_clauseOf_0 16 rfl rfl)
theorem dX2_clauseOf_17 : decode cX2_clauseOf 17 = .ok (.if_icmp .ge 32, 3) := dk_162 0 32 (dk_at dksX2_clauseOf_0 17 rfl rfl)
theorem dX2_clauseOf_20 : decode cX2_clauseOf 20 = .ok (.aload_n 0, 1) := dk_42 (dk_at dksX2_clauseOf_0 20 rfl rfl)
theorem dX2_clauseOf_21 : decode cX2_clauseOf 21 = .ok (.getfield 16, 3) := dk_180 0 16 (dk_at dksX2_clauseOf_0 21 rfl rfl)
theorem dX2_clauseOf_24 : decode cX2_clauseOf 24 = .ok (.sipush 753, 3) := dk_17 2 241 (dk_at dksX2_clauseOf_1 0 rfl rfl)
theorem dX2_clauseOf_27 : decode cX2_clauseOf 27 = .ok (.iload_n 1, 1) := dk_27 (dk_at dksX2_clauseOf_1 3 rfl rfl)
theorem dX2_clauseOf_28 : decode cX2_clauseOf 28 = .ok (.imul, 1) := dk_104 (dk_at dksX2_clauseOf_1 4 rfl rfl)
theorem dX2_clauseOf_29 : decode cX2_clauseOf 29 = .ok (.iconst 1, 1) := dk_4 (dk_at dksX2_clauseOf_1 5 rfl rfl)
theorem dX2_clauseOf_30 : decode cX2_clauseOf 30 = .ok (.iadd, 1) := dk_96 (dk_at dksX2_clauseOf_1 6 rfl rfl)
theorem dX2_clauseOf_31 : decode cX2_clauseOf 31 = .ok (.bipush 6, 2) := dk_16 6 (dk_at dksX2_clauseOf_1 7 rfl rfl)
theorem dX2_clauseOf_33 : decode cX2_clauseOf 33 = .ok (.iload_n 3, 1) := dk_29 (dk_at dksX2_clauseOf_1 9 rfl rfl)
theorem dX2_clauseOf_34 : decode cX2_clauseOf 34 = .ok (.imul, 1) := dk_104 (dk_at dksX2_clauseOf_1 10 rfl rfl)
theorem dX2_clauseOf_35 : decode cX2_clauseOf 35 = .ok (.iadd, 1) := dk_96 (dk_at dksX2_clauseOf_1 11 rfl rfl)
theorem dX2_clauseOf_36 : decode cX2_clauseOf 36 = .ok (.iaload, 1) := dk_46 (dk_at dksX2_clauseOf_1 12 rfl rfl)
theorem dX2_clauseOf_37 : decode cX2_clauseOf 37 = .ok (.iload_n 2, 1) := dk_28 (dk_at dksX2_clauseOf_1 13 rfl rfl)
theorem dX2_clauseOf_38 : decode cX2_clauseOf 38 = .ok (.if_icmp .ne 5, 3) := dk_160 0 5 (dk_at dksX2_clauseOf_1 14 rfl rfl)
theorem dX2_clauseOf_41 : decode cX2_clauseOf 41 = .ok (.iload_n 3, 1) := dk_29 (dk_at dksX2_clauseOf_1 17 rfl rfl)
theorem dX2_clauseOf_42 : decode cX2_clauseOf 42 = .ok (.ireturn, 1) := dk_172 (dk_at dksX2_clauseOf_1 18 rfl rfl)
theorem dX2_clauseOf_43 : decode cX2_clauseOf 43 = .ok (.iinc 3 1, 3) := dk_132 3 1 (dk_at dksX2_clauseOf_1 19 rfl rfl)
theorem dX2_clauseOf_46 : decode cX2_clauseOf 46 = .ok (.goto (-44), 3) := dk_167 255 212 (dk_at dksX2_clauseOf_2 0 rfl rfl)
theorem dX2_clauseOf_49 : decode cX2_clauseOf 49 = .ok (.iconst (-1), 1) := dk_2 (dk_at dksX2_clauseOf_2 3 rfl rfl)
theorem dX2_clauseOf_50 : decode cX2_clauseOf 50 = .ok (.ireturn, 1) := dk_172 (dk_at dksX2_clauseOf_2 4 rfl rfl)
abbrev cX2_worked : ByteArray := prog_19_method_61_code
def yX2_worked : MethodName := ⟨RX2, "worked", "(II)I"⟩
def dkwX2_worked_20 : List UInt8 := [167, 0, 4, 3, 84, 132, 7, 1, 167, 254, 82, 42, 180, 0, 35, 3, 47, 136, 172]
abbrev dktX2_worked_20 : List UInt8 := dkwX2_worked_20 ++ []
def dkwX2_worked_19 : List UInt8 := [180, 0, 39, 21, 6, 4, 100, 51, 154, 0, 13, 42, 180, 0, 39, 21, 6, 51, 153, 0, 7, 4]
abbrev dktX2_worked_19 : List UInt8 := dkwX2_worked_19 ++ dktX2_worked_20
def dkwX2_worked_18 : List UInt8 := [153, 0, 17, 42, 180, 0, 39, 21, 6, 51, 153, 0, 7, 4, 167, 0, 34, 3, 167, 0, 30, 42]
abbrev dktX2_worked_18 : List UInt8 := dkwX2_worked_18 ++ dktX2_worked_19
def dkwX2_worked_17 : List UInt8 := [180, 0, 39, 21, 6, 4, 100, 21, 8, 16, 21, 160, 0, 33, 42, 180, 0, 39, 21, 6, 4, 100, 51]
abbrev dktX2_worked_17 : List UInt8 := dkwX2_worked_17 ++ dktX2_worked_18
def dkwX2_worked_16 : List UInt8 := [180, 0, 39, 21, 6, 4, 100, 51, 154, 0, 7, 4, 167, 0, 4, 3, 84, 167, 0, 79, 132, 6, 255, 42]
abbrev dktX2_worked_16 : List UInt8 := dkwX2_worked_16 ++ dktX2_worked_17
def dkwX2_worked_15 : List UInt8 := [132, 6, 1, 167, 0, 115, 21, 8, 16, 20, 160, 0, 32, 42, 180, 0, 39, 21, 6, 4, 100, 42]
abbrev dktX2_worked_15 : List UInt8 := dkwX2_worked_15 ++ dktX2_worked_16
def dkwX2_worked_14 : List UInt8 := [21, 8, 42, 180, 0, 35, 21, 5, 47, 42, 180, 0, 35, 21, 5, 4, 96, 47, 184, 1, 23, 84]
abbrev dktX2_worked_14 : List UInt8 := dkwX2_worked_14 ++ dktX2_worked_15
def dkwX2_worked_13 : List UInt8 := [184, 1, 19, 80, 167, 0, 159, 21, 8, 16, 20, 162, 0, 40, 132, 5, 254, 42, 180, 0, 39, 21, 6]
abbrev dktX2_worked_13 : List UInt8 := dkwX2_worked_13 ++ dktX2_worked_14
def dkwX2_worked_12 : List UInt8 := [21, 5, 4, 100, 21, 8, 42, 180, 0, 35, 21, 5, 4, 100, 47, 42, 180, 0, 35, 21, 5, 47]
abbrev dktX2_worked_12 : List UInt8 := dkwX2_worked_12 ++ dktX2_worked_13
def dkwX2_worked_11 : List UInt8 := [21, 5, 4, 100, 47, 80, 167, 0, 202, 21, 8, 16, 10, 162, 0, 39, 132, 5, 255, 42, 180, 0, 35]
abbrev dktX2_worked_11 : List UInt8 := dkwX2_worked_11 ++ dktX2_worked_12
def dkwX2_worked_10 : List UInt8 := [100, 47, 9, 148, 156, 0, 16, 42, 180, 0, 35, 21, 5, 4, 100, 47, 117, 167, 0, 12, 42, 180, 0, 35]
abbrev dktX2_worked_10 : List UInt8 := dkwX2_worked_10 ++ dktX2_worked_11
def dkwX2_worked_9 : List UInt8 := [167, 1, 0, 21, 8, 8, 160, 0, 51, 42, 180, 0, 35, 21, 5, 4, 100, 42, 180, 0, 35, 21, 5, 4]
abbrev dktX2_worked_9 : List UInt8 := dkwX2_worked_9 ++ dktX2_worked_10
def dkwX2_worked_8 : List UInt8 := [7, 160, 0, 25, 42, 180, 0, 35, 21, 5, 4, 100, 42, 180, 0, 35, 21, 5, 4, 100, 47, 117, 80]
abbrev dktX2_worked_8 : List UInt8 := dkwX2_worked_8 ++ dktX2_worked_9
def dkwX2_worked_7 : List UInt8 := [154, 1, 47, 42, 180, 0, 35, 21, 5, 4, 100, 42, 180, 0, 35, 21, 5, 47, 80, 167, 1, 28, 21, 8]
abbrev dktX2_worked_7 : List UInt8 := dkwX2_worked_7 ++ dktX2_worked_8
def dkwX2_worked_6 : List UInt8 := [167, 1, 69, 21, 8, 6, 160, 0, 38, 132, 5, 255, 132, 6, 255, 42, 180, 0, 39, 21, 6, 51]
abbrev dktX2_worked_6 : List UInt8 := dkwX2_worked_6 ++ dktX2_worked_7
def dkwX2_worked_5 : List UInt8 := [133, 167, 0, 18, 42, 21, 9, 16, 10, 108, 21, 9, 16, 10, 112, 182, 1, 16, 133, 80, 132, 5, 1]
abbrev dktX2_worked_5 : List UInt8 := dkwX2_worked_5 ++ dktX2_worked_6
def dkwX2_worked_4 : List UInt8 := [21, 8, 154, 0, 9, 21, 9, 133, 167, 0, 35, 21, 8, 4, 160, 0, 14, 42, 180, 0, 32, 21, 9, 46]
abbrev dktX2_worked_4 : List UInt8 := dkwX2_worked_4 ++ dktX2_worked_5
def dkwX2_worked_3 : List UInt8 := [21, 4, 5, 21, 7, 104, 96, 4, 96, 46, 54, 9, 21, 8, 5, 163, 0, 59, 42, 180, 0, 35, 21, 5]
abbrev dktX2_worked_3 : List UInt8 := dkwX2_worked_3 ++ dktX2_worked_4
def dkwX2_worked_2 : List UInt8 := [96, 46, 162, 1, 167, 42, 180, 0, 16, 21, 4, 5, 21, 7, 104, 96, 46, 54, 8, 42, 180, 0, 16]
abbrev dktX2_worked_2 : List UInt8 := dkwX2_worked_2 ++ dktX2_worked_3
def dkwX2_worked_1 : List UInt8 := [3, 54, 5, 3, 54, 6, 42, 180, 0, 16, 29, 4, 96, 46, 54, 7, 21, 7, 42, 180, 0, 16, 29, 5]
abbrev dktX2_worked_1 : List UInt8 := dkwX2_worked_1 ++ dktX2_worked_2
def dkwX2_worked_0 : List UInt8 := [17, 2, 241, 27, 104, 4, 96, 16, 6, 28, 104, 96, 62, 17, 2, 241, 27, 104, 17, 0, 145, 96, 54, 4]
abbrev dktX2_worked_0 : List UInt8 := dkwX2_worked_0 ++ dktX2_worked_1
theorem dksX2_worked_0 : cX2_worked.data.toList.drop 0 = dktX2_worked_0 := by decide +kernel
theorem dksX2_worked_1 : cX2_worked.data.toList.drop 24 = dktX2_worked_1 := dk_seg dksX2_worked_0 24 rfl rfl
theorem dksX2_worked_2 : cX2_worked.data.toList.drop 48 = dktX2_worked_2 := dk_seg dksX2_worked_1 24 rfl rfl
theorem dksX2_worked_3 : cX2_worked.data.toList.drop 71 = dktX2_worked_3 := dk_seg dksX2_worked_2 23 rfl rfl
theorem dksX2_worked_4 : cX2_worked.data.toList.drop 95 = dktX2_worked_4 := dk_seg dksX2_worked_3 24 rfl rfl
theorem dksX2_worked_5 : cX2_worked.data.toList.drop 119 = dktX2_worked_5 := dk_seg dksX2_worked_4 24 rfl rfl
theorem dksX2_worked_6 : cX2_worked.data.toList.drop 142 = dktX2_worked_6 := dk_seg dksX2_worked_5 23 rfl rfl
theorem dksX2_worked_7 : cX2_worked.data.toList.drop 164 = dktX2_worked_7 := dk_seg dksX2_worked_6 22 rfl rfl
theorem dksX2_worked_8 : cX2_worked.data.toList.drop 188 = dktX2_worked_8 := dk_seg dksX2_worked_7 24 rfl rfl
theorem dksX2_worked_9 : cX2_worked.data.toList.drop 211 = dktX2_worked_9 := dk_seg dksX2_worked_8 23 rfl rfl
theorem dksX2_worked_10 : cX2_worked.data.toList.drop 235 = dktX2_worked_10 := dk_seg dksX2_worked_9 24 rfl rfl
theorem dksX2_worked_11 : cX2_worked.data.toList.drop 259 = dktX2_worked_11 := dk_seg dksX2_worked_10 24 rfl rfl
theorem dksX2_worked_12 : cX2_worked.data.toList.drop 282 = dktX2_worked_12 := dk_seg dksX2_worked_11 23 rfl rfl
theorem dksX2_worked_13 : cX2_worked.data.toList.drop 304 = dktX2_worked_13 := dk_seg dksX2_worked_12 22 rfl rfl
theorem dksX2_worked_14 : cX2_worked.data.toList.drop 327 = dktX2_worked_14 := dk_seg dksX2_worked_13 23 rfl rfl
theorem dksX2_worked_15 : cX2_worked.data.toList.drop 349 = dktX2_worked_15 := dk_seg dksX2_worked_14 22 rfl rfl
theorem dksX2_worked_16 : cX2_worked.data.toList.drop 371 = dktX2_worked_16 := dk_seg dksX2_worked_15 22 rfl rfl
theorem dksX2_worked_17 : cX2_worked.data.toList.drop 395 = dktX2_worked_17 := dk_seg dksX2_worked_16 24 rfl rfl
theorem dksX2_worked_18 : cX2_worked.data.toList.drop 418 = dktX2_worked_18 := dk_seg dksX2_worked_17 23 rfl rfl
theorem dksX2_worked_19 : cX2_worked.data.toList.drop 440 = dktX2_worked_19 := dk_seg dksX2_worked_18 22 rfl rfl
theorem dksX2_worked_20 : cX2_worked.data.toList.drop 462 = dktX2_worked_20 := dk_seg dksX2_worked_19 22 rfl rfl
theorem dX2_worked_0 : decode cX2_worked 0 = .ok (.sipush 753, 3) := dk_17 2 241 (dk_at dksX2_worked_0 0 rfl rfl)
theorem dX2_worked_3 : decode cX2_worked 3 = .ok (.iload_n 1, 1) := dk_27 (dk_at dksX2_worked_0 3 rfl rfl)
theorem dX2_worked_4 : decode cX2_worked 4 = .ok (.imul, 1) := dk_104 (dk_at dksX2_worked_0 4 rfl rfl)
theorem dX2_worked_5 : decode cX2_worked 5 = .ok (.iconst 1, 1) := dk_4 (dk_at dksX2_worked_0 5 rfl rfl)
theorem dX2_worked_6 : decode cX2_worked 6 = .ok (.iadd, 1) := dk_96 (dk_at dksX2_worked_0 6 rfl rfl)
theorem dX2_worked_7 : decode cX2_worked 7 = .ok (.bipush 6, 2) := dk_16 6 (dk_at dksX2_worked_0 7 rfl rfl)
theorem dX2_worked_9 : decode cX2_worked 9 = .ok (.iload_n 2, 1) := dk_28 (dk_at dksX2_worked_0 9 rfl rfl)
theorem dX2_worked_10 : decode cX2_worked 10 = .ok (.imul, 1) := dk_104 (dk_at dksX2_worked_0 10 rfl rfl)
theorem dX2_worked_11 : decode cX2_worked 11 = .ok (.iadd, 1) := dk_96 (dk_at dksX2_worked_0 11 rfl rfl)
theorem dX2_worked_12 : decode cX2_worked 12 = .ok (.istore_n 3, 1) := dk_62 (dk_at dksX2_worked_0 12 rfl rfl)
theorem dX2_worked_13 : decode cX2_worked 13 = .ok (.sipush 753, 3) := dk_17 2 241 (dk_at dksX2_worked_0 13 rfl rfl)
theorem dX2_worked_16 : decode cX2_worked 16 = .ok (.iload_n 1, 1) := dk_27 (dk_at dksX2_worked_0 16 rfl rfl)
theorem dX2_worked_17 : decode cX2_worked 17 = .ok (.imul, 1) := dk_104 (dk_at dksX2_worked_0 17 rfl rfl)
theorem dX2_worked_18 : decode cX2_worked 18 = .ok (.sipush 145, 3) := dk_17 0 145 (dk_at dksX2_worked_0 18 rfl rfl)
theorem dX2_worked_21 : decode cX2_worked 21 = .ok (.iadd, 1) := dk_96 (dk_at dksX2_worked_0 21 rfl rfl)
theorem dX2_worked_22 : decode cX2_worked 22 = .ok (.istore 4, 2) := dk_54 4 (dk_at dksX2_worked_0 22 rfl rfl)
theorem dX2_worked_24 : decode cX2_worked 24 = .ok (.iconst 0, 1) := dk_3 (dk_at dksX2_worked_1 0 rfl rfl)
theorem dX2_worked_25 : decode cX2_worked 25 = .ok (.istore 5, 2) := dk_54 5 (dk_at dksX2_worked_1 1 rfl rfl)
theorem dX2_worked_27 : decode cX2_worked 27 = .ok (.iconst 0, 1) := dk_3 (dk_at dksX2_worked_1 3 rfl rfl)
theorem dX2_worked_28 : decode cX2_worked 28 = .ok (.istore 6, 2) := dk_54 6 (dk_at dksX2_worked_1 4 rfl rfl)
theorem dX2_worked_30 : decode cX2_worked 30 = .ok (.aload_n 0, 1) := dk_42 (dk_at dksX2_worked_1 6 rfl rfl)
theorem dX2_worked_31 : decode cX2_worked 31 = .ok (.getfield 16, 3) := dk_180 0 16 (dk_at dksX2_worked_1 7 rfl rfl)
theorem dX2_worked_34 : decode cX2_worked 34 = .ok (.iload_n 3, 1) := dk_29 (dk_at dksX2_worked_1 10 rfl rfl)
theorem dX2_worked_35 : decode cX2_worked 35 = .ok (.iconst 1, 1) := dk_4 (dk_at dksX2_worked_1 11 rfl rfl)
theorem dX2_worked_36 : decode cX2_worked 36 = .ok (.iadd, 1) := dk_96 (dk_at dksX2_worked_1 12 rfl rfl)
theorem dX2_worked_37 : decode cX2_worked 37 = .ok (.iaload, 1) := dk_46 (dk_at dksX2_worked_1 13 rfl rfl)
theorem dX2_worked_38 : decode cX2_worked 38 = .ok (.istore 7, 2) := dk_54 7 (dk_at dksX2_worked_1 14 rfl rfl)
theorem dX2_worked_40 : decode cX2_worked 40 = .ok (.iload 7, 2) := dk_21 7 (dk_at dksX2_worked_1 16 rfl rfl)
theorem dX2_worked_42 : decode cX2_worked 42 = .ok (.aload_n 0, 1) := dk_42 (dk_at dksX2_worked_1 18 rfl rfl)
theorem dX2_worked_43 : decode cX2_worked 43 = .ok (.getfield 16, 3) := dk_180 0 16 (dk_at dksX2_worked_1 19 rfl rfl)
theorem dX2_worked_46 : decode cX2_worked 46 = .ok (.iload_n 3, 1) := dk_29 (dk_at dksX2_worked_1 22 rfl rfl)
theorem dX2_worked_47 : decode cX2_worked 47 = .ok (.iconst 2, 1) := dk_5 (dk_at dksX2_worked_1 23 rfl rfl)
theorem dX2_worked_48 : decode cX2_worked 48 = .ok (.iadd, 1) := dk_96 (dk_at dksX2_worked_2 0 rfl rfl)
theorem dX2_worked_49 : decode cX2_worked 49 = .ok (.iaload, 1) := dk_46 (dk_at dksX2_worked_2 1 rfl rfl)
theorem dX2_worked_50 : decode cX2_worked 50 = .ok (.if_icmp .ge 423, 3) := dk_162 1 167 (dk_at dksX2_worked_2 2 rfl rfl)
theorem dX2_worked_53 : decode cX2_worked 53 = .ok (.aload_n 0, 1) := dk_42 (dk_at dksX2_worked_2 5 rfl rfl)
theorem dX2_worked_54 : decode cX2_worked 54 = .ok (.getfield 16, 3) := dk_180 0 16 (dk_at dksX2_worked_2 6 rfl rfl)
theorem dX2_worked_57 : decode cX2_worked 57 = .ok (.iload 4, 2) := dk_21 4 (dk_at dksX2_worked_2 9 rfl rfl)
theorem dX2_worked_59 : decode cX2_worked 59 = .ok (.iconst 2, 1) := dk_5 (dk_at dksX2_worked_2 11 rfl rfl)
theorem dX2_worked_60 : decode cX2_worked 60 = .ok (.iload 7, 2) := dk_21 7 (dk_at dksX2_worked_2 12 rfl rfl)
theorem dX2_worked_62 : decode cX2_worked 62 = .ok (.imul, 1) := dk_104 (dk_at dksX2_worked_2 14 rfl rfl)
theorem dX2_worked_63 : decode cX2_worked 63 = .ok (.iadd, 1) := dk_96 (dk_at dksX2_worked_2 15 rfl rfl)
theorem dX2_worked_64 : decode cX2_worked 64 = .ok (.iaload, 1) := dk_46 (dk_at dksX2_worked_2 16 rfl rfl)
theorem dX2_worked_65 : decode cX2_worked 65 = .ok (.istore 8, 2) := dk_54 8 (dk_at dksX2_worked_2 17 rfl rfl)
theorem dX2_worked_67 : decode cX2_worked 67 = .ok (.aload_n 0, 1) := dk_42 (dk_at dksX2_worked_2 19 rfl rfl)
theorem dX2_worked_68 : decode cX2_worked 68 = .ok (.getfield 16, 3) := dk_180 0 16 (dk_at dksX2_worked_2 20 rfl rfl)
theorem dX2_worked_71 : decode cX2_worked 71 = .ok (.iload 4, 2) := dk_21 4 (dk_at dksX2_worked_3 0 rfl rfl)
theorem dX2_worked_73 : decode cX2_worked 73 = .ok (.iconst 2, 1) := dk_5 (dk_at dksX2_worked_3 2 rfl rfl)
theorem dX2_worked_74 : decode cX2_worked 74 = .ok (.iload 7, 2) := dk_21 7 (dk_at dksX2_worked_3 3 rfl rfl)
theorem dX2_worked_76 : decode cX2_worked 76 = .ok (.imul, 1) := dk_104 (dk_at dksX2_worked_3 5 rfl rfl)
theorem dX2_worked_77 : decode cX2_worked 77 = .ok (.iadd, 1) := dk_96 (dk_at dksX2_worked_3 6 rfl rfl)
theorem dX2_worked_78 : decode cX2_worked 78 = .ok (.iconst 1, 1) := dk_4 (dk_at dksX2_worked_3 7 rfl rfl)
theorem dX2_worked_79 : decode cX2_worked 79 = .ok (.iadd, 1) := dk_96 (dk_at dksX2_worked_3 8 rfl rfl)
theorem dX2_worked_80 : decode cX2_worked 80 = .ok (.iaload, 1) := dk_46 (dk_at dksX2_worked_3 9 rfl rfl)
theorem dX2_worked_81 : decode cX2_worked 81 = .ok (.istore 9, 2) := dk_54 9 (dk_at dksX2_worked_3 10 rfl rfl)
theorem dX2_worked_83 : decode cX2_worked 83 = .ok (.iload 8, 2) := dk_21 8 (dk_at dksX2_worked_3 12 rfl rfl)
theorem dX2_worked_85 : decode cX2_worked 85 = .ok (.iconst 2, 1) := dk_5 (dk_at dksX2_worked_3 14 rfl rfl)
theorem dX2_worked_86 : decode cX2_worked 86 = .ok (.if_icmp .gt 59, 3) := dk_163 0 59 (dk_at dksX2_worked_3 15 rfl rfl)
theorem dX2_worked_89 : decode cX2_worked 89 = .ok (.aload_n 0, 1) := dk_42 (dk_at dksX2_worked_3 18 rfl rfl)
theorem dX2_worked_90 : decode cX2_worked 90 = .ok (.getfield 35, 3) := dk_180 0 35 (dk_at dksX2_worked_3 19 rfl rfl)
theorem dX2_worked_93 : decode cX2_worked 93 = .ok (.iload 5, 2) := dk_21 5 (dk_at dksX2_worked_3 22 rfl rfl)
theorem dX2_worked_95 : decode cX2_worked 95 = .ok (.iload 8, 2) := dk_21 8 (dk_at dksX2_worked_4 0 rfl rfl)
theorem dX2_worked_97 : decode cX2_worked 97 = .ok (.ifCond .ne 9, 3) := dk_154 0 9 (dk_at dksX2_worked_4 2 rfl rfl)
theorem dX2_worked_100 : decode cX2_worked 100 = .ok (.iload 9, 2) := dk_21 9 (dk_at dksX2_worked_4 5 rfl rfl)
theorem dX2_worked_102 : decode cX2_worked 102 = .ok (.i2l, 1) := dk_133 (dk_at dksX2_worked_4 7 rfl rfl)
theorem dX2_worked_103 : decode cX2_worked 103 = .ok (.goto 35, 3) := dk_167 0 35 (dk_at dksX2_worked_4 8 rfl rfl)
theorem dX2_worked_106 : decode cX2_worked 106 = .ok (.iload 8, 2) := dk_21 8 (dk_at dksX2_worked_4 11 rfl rfl)
theorem dX2_worked_108 : decode cX2_worked 108 = .ok (.iconst 1, 1) := dk_4 (dk_at dksX2_worked_4 13 rfl rfl)
theorem dX2_worked_109 : decode cX2_worked 109 = .ok (.if_icmp .ne 14, 3) := dk_160 0 14 (dk_at dksX2_worked_4 14 rfl rfl)
theorem dX2_worked_112 : decode cX2_worked 112 = .ok (.aload_n 0, 1) := dk_42 (dk_at dksX2_worked_4 17 rfl rfl)
theorem dX2_worked_113 : decode cX2_worked 113 = .ok (.getfield 32, 3) := dk_180 0 32 (dk_at dksX2_worked_4 18 rfl rfl)
theorem dX2_worked_116 : decode cX2_worked 116 = .ok (.iload 9, 2) := dk_21 9 (dk_at dksX2_worked_4 21 rfl rfl)
theorem dX2_worked_118 : decode cX2_worked 118 = .ok (.iaload, 1) := dk_46 (dk_at dksX2_worked_4 23 rfl rfl)
theorem dX2_worked_119 : decode cX2_worked 119 = .ok (.i2l, 1) := dk_133 (dk_at dksX2_worked_5 0 rfl rfl)
theorem dX2_worked_120 : decode cX2_worked 120 = .ok (.goto 18, 3) := dk_167 0 18 (dk_at dksX2_worked_5 1 rfl rfl)
theorem dX2_worked_123 : decode cX2_worked 123 = .ok (.aload_n 0, 1) := dk_42 (dk_at dksX2_worked_5 4 rfl rfl)
theorem dX2_worked_124 : decode cX2_worked 124 = .ok (.iload 9, 2) := dk_21 9 (dk_at dksX2_worked_5 5 rfl rfl)
theorem dX2_worked_126 : decode cX2_worked 126 = .ok (.bipush 10, 2) := dk_16 10 (dk_at dksX2_worked_5 7 rfl rfl)
theorem dX2_worked_128 : decode cX2_worked 128 = .ok (.idiv, 1) := dk_108 (dk_at dksX2_worked_5 9 rfl rfl)
theorem dX2_worked_129 : decode cX2_worked 129 = .ok (.iload 9, 2) := dk_21 9 (dk_at dksX2_worked_5 10 rfl rfl)
theorem dX2_worked_131 : decode cX2_worked 131 = .ok (.bipush 10, 2) := dk_16 10 (dk_at dksX2_worked_5 12 rfl rfl)
theorem dX2_worked_133 : decode cX2_worked 133 = .ok (.irem, 1) := dk_112 (dk_at dksX2_worked_5 14 rfl rfl)
theorem dX2_worked_134 : decode cX2_worked 134 = .ok (.invokevirtual 272, 3) := dk_182 1 16 (dk_at dksX2_worked_5 15 rfl rfl)
theorem dX2_worked_137 : decode cX2_worked 137 = .ok (.i2l, 1) := dk_133 (dk_at dksX2_worked_5 18 rfl rfl)
theorem dX2_worked_138 : decode cX2_worked 138 = .ok (.lastore, 1) := dk_80 (dk_at dksX2_worked_5 19 rfl rfl)
theorem dX2_worked_139 : decode cX2_worked 139 = .ok (.iinc 5 1, 3) := dk_132 5 1 (dk_at dksX2_worked_5 20 rfl rfl)
theorem dX2_worked_142 : decode cX2_worked 142 = .ok (.goto 325, 3) := dk_167 1 69 (dk_at dksX2_worked_6 0 rfl rfl)
theorem dX2_worked_145 : decode cX2_worked 145 = .ok (.iload 8, 2) := dk_21 8 (dk_at dksX2_worked_6 3 rfl rfl)
theorem dX2_worked_147 : decode cX2_worked 147 = .ok (.iconst 3, 1) := dk_6 (dk_at dksX2_worked_6 5 rfl rfl)
theorem dX2_worked_148 : decode cX2_worked 148 = .ok (.if_icmp .ne 38, 3) := dk_160 0 38 (dk_at dksX2_worked_6 6 rfl rfl)
theorem dX2_worked_151 : decode cX2_worked 151 = .ok (.iinc 5 (-1), 3) := dk_132 5 255 (dk_at dksX2_worked_6 9 rfl rfl)
theorem dX2_worked_154 : decode cX2_worked 154 = .ok (.iinc 6 (-1), 3) := dk_132 6 255 (dk_at dksX2_worked_6 12 rfl rfl)
theorem dX2_worked_157 : decode cX2_worked 157 = .ok (.aload_n 0, 1) := dk_42 (dk_at dksX2_worked_6 15 rfl rfl)
theorem dX2_worked_158 : decode cX2_worked 158 = .ok (.getfield 39, 3) := dk_180 0 39 (dk_at dksX2_worked_6 16 rfl rfl)
theorem dX2_worked_161 : decode cX2_worked 161 = .ok (.iload 6, 2) := dk_21 6 (dk_at dksX2_worked_6 19 rfl rfl)
theorem dX2_worked_163 : decode cX2_worked 163 = .ok (.baload, 1) := dk_51 (dk_at dksX2_worked_6 21 rfl rfl)
theorem dX2_worked_164 : decode cX2_worked 164 = .ok (.ifCond .ne 303, 3) := dk_154 1 47 (dk_at dksX2_worked_7 0 rfl rfl)
theorem dX2_worked_167 : decode cX2_worked 167 = .ok (.aload_n 0, 1) := dk_42 (dk_at dksX2_worked_7 3 rfl rfl)
theorem dX2_worked_168 : decode cX2_worked 168 = .ok (.getfield 35, 3) := dk_180 0 35 (dk_at dksX2_worked_7 4 rfl rfl)
theorem dX2_worked_171 : decode cX2_worked 171 = .ok (.iload 5, 2) := dk_21 5 (dk_at dksX2_worked_7 7 rfl rfl)
theorem dX2_worked_173 : decode cX2_worked 173 = .ok (.iconst 1, 1) := dk_4 (dk_at dksX2_worked_7 9 rfl rfl)
theorem dX2_worked_174 : decode cX2_worked 174 = .ok (.isub, 1) := dk_100 (dk_at dksX2_worked_7 10 rfl rfl)
theorem dX2_worked_175 : decode cX2_worked 175 = .ok (.aload_n 0, 1) := dk_42 (dk_at dksX2_worked_7 11 rfl rfl)
theorem dX2_worked_176 : decode cX2_worked 176 = .ok (.getfield 35, 3) := dk_180 0 35 (dk_at dksX2_worked_7 12 rfl rfl)
theorem dX2_worked_179 : decode cX2_worked 179 = .ok (.iload 5, 2) := dk_21 5 (dk_at dksX2_worked_7 15 rfl rfl)
theorem dX2_worked_181 : decode cX2_worked 181 = .ok (.laload, 1) := dk_47 (dk_at dksX2_worked_7 17 rfl rfl)
theorem dX2_worked_182 : decode cX2_worked 182 = .ok (.lastore, 1) := dk_80 (dk_at dksX2_worked_7 18 rfl rfl)
theorem dX2_worked_183 : decode cX2_worked 183 = .ok (.goto 284, 3) := dk_167 1 28 (dk_at dksX2_worked_7 19 rfl rfl)
theorem dX2_worked_186 : decode cX2_worked 186 = .ok (.iload 8, 2) := dk_21 8 (dk_at dksX2_worked_7 22 rfl rfl)
theorem dX2_worked_188 : decode cX2_worked 188 = .ok (.iconst 4, 1) := dk_7 (dk_at dksX2_worked_8 0 rfl rfl)
theorem dX2_worked_189 : decode cX2_worked 189 = .ok (.if_icmp .ne 25, 3) := dk_160 0 25 (dk_at dksX2_worked_8 1 rfl rfl)
theorem dX2_worked_192 : decode cX2_worked 192 = .ok (.aload_n 0, 1) := dk_42 (dk_at dksX2_worked_8 4 rfl rfl)
theorem dX2_worked_193 : decode cX2_worked 193 = .ok (.getfield 35, 3) := dk_180 0 35 (dk_at dksX2_worked_8 5 rfl rfl)
theorem dX2_worked_196 : decode cX2_worked 196 = .ok (.iload 5, 2) := dk_21 5 (dk_at dksX2_worked_8 8 rfl rfl)
theorem dX2_worked_198 : decode cX2_worked 198 = .ok (.iconst 1, 1) := dk_4 (dk_at dksX2_worked_8 10 rfl rfl)
theorem dX2_worked_199 : decode cX2_worked 199 = .ok (.isub, 1) := dk_100 (dk_at dksX2_worked_8 11 rfl rfl)
theorem dX2_worked_200 : decode cX2_worked 200 = .ok (.aload_n 0, 1) := dk_42 (dk_at dksX2_worked_8 12 rfl rfl)
theorem dX2_worked_201 : decode cX2_worked 201 = .ok (.getfield 35, 3) := dk_180 0 35 (dk_at dksX2_worked_8 13 rfl rfl)
theorem dX2_worked_204 : decode cX2_worked 204 = .ok (.iload 5, 2) := dk_21 5 (dk_at dksX2_worked_8 16 rfl rfl)
theorem dX2_worked_206 : decode cX2_worked 206 = .ok (.iconst 1, 1) := dk_4 (dk_at dksX2_worked_8 18 rfl rfl)
theorem dX2_worked_207 : decode cX2_worked 207 = .ok (.isub, 1) := dk_100 (dk_at dksX2_worked_8 19 rfl rfl)
theorem dX2_worked_208 : decode cX2_worked 208 = .ok (.laload, 1) := dk_47 (dk_at dksX2_worked_8 20 rfl rfl)
theorem dX2_worked_209 : decode cX2_worked 209 = .ok (.lneg, 1) := dk_117 (dk_at dksX2_worked_8 21 rfl rfl)
theorem dX2_worked_210 : decode cX2_worked 210 = .ok (.lastore, 1) := dk_80 (dk_at dksX2_worked_8 22 rfl rfl)
theorem dX2_worked_211 : decode cX2_worked 211 = .ok (.goto 256, 3) := dk_167 1 0 (dk_at dksX2_worked_9 0 rfl rfl)
theorem dX2_worked_214 : decode cX2_worked 214 = .ok (.iload 8, 2) := dk_21 8 (dk_at dksX2_worked_9 3 rfl rfl)
theorem dX2_worked_216 : decode cX2_worked 216 = .ok (.iconst 5, 1) := dk_8 (dk_at dksX2_worked_9 5 rfl rfl)
theorem dX2_worked_217 : decode cX2_worked 217 = .ok (.if_icmp .ne 51, 3) := dk_160 0 51 (dk_at dksX2_worked_9 6 rfl rfl)
theorem dX2_worked_220 : decode cX2_worked 220 = .ok (.aload_n 0, 1) := dk_42 (dk_at dksX2_worked_9 9 rfl rfl)
theorem dX2_worked_221 : decode cX2_worked 221 = .ok (.getfield 35, 3) := dk_180 0 35 (dk_at dksX2_worked_9 10 rfl rfl)
theorem dX2_worked_224 : decode cX2_worked 224 = .ok (.iload 5, 2) := dk_21 5 (dk_at dksX2_worked_9 13 rfl rfl)
theorem dX2_worked_226 : decode cX2_worked 226 = .ok (.iconst 1, 1) := dk_4 (dk_at dksX2_worked_9 15 rfl rfl)
theorem dX2_worked_227 : decode cX2_worked 227 = .ok (.isub, 1) := dk_100 (dk_at dksX2_worked_9 16 rfl rfl)
theorem dX2_worked_228 : decode cX2_worked 228 = .ok (.aload_n 0, 1) := dk_42 (dk_at dksX2_worked_9 17 rfl rfl)
theorem dX2_worked_229 : decode cX2_worked 229 = .ok (.getfield 35, 3) := dk_180 0 35 (dk_at dksX2_worked_9 18 rfl rfl)
theorem dX2_worked_232 : decode cX2_worked 232 = .ok (.iload 5, 2) := dk_21 5 (dk_at dksX2_worked_9 21 rfl rfl)
theorem dX2_worked_234 : decode cX2_worked 234 = .ok (.iconst 1, 1) := dk_4 (dk_at dksX2_worked_9 23 rfl rfl)
theorem dX2_worked_235 : decode cX2_worked 235 = .ok (.isub, 1) := dk_100 (dk_at dksX2_worked_10 0 rfl rfl)
theorem dX2_worked_236 : decode cX2_worked 236 = .ok (.laload, 1) := dk_47 (dk_at dksX2_worked_10 1 rfl rfl)
theorem dX2_worked_237 : decode cX2_worked 237 = .ok (.lconst 0, 1) := dk_9 (dk_at dksX2_worked_10 2 rfl rfl)
theorem dX2_worked_238 : decode cX2_worked 238 = .ok (.lcmp, 1) := dk_148 (dk_at dksX2_worked_10 3 rfl rfl)
theorem dX2_worked_239 : decode cX2_worked 239 = .ok (.ifCond .ge 16, 3) := dk_156 0 16 (dk_at dksX2_worked_10 4 rfl rfl)
theorem dX2_worked_242 : decode cX2_worked 242 = .ok (.aload_n 0, 1) := dk_42 (dk_at dksX2_worked_10 7 rfl rfl)
theorem dX2_worked_243 : decode cX2_worked 243 = .ok (.getfield 35, 3) := dk_180 0 35 (dk_at dksX2_worked_10 8 rfl rfl)
theorem dX2_worked_246 : decode cX2_worked 246 = .ok (.iload 5, 2) := dk_21 5 (dk_at dksX2_worked_10 11 rfl rfl)
theorem dX2_worked_248 : decode cX2_worked 248 = .ok (.iconst 1, 1) := dk_4 (dk_at dksX2_worked_10 13 rfl rfl)
theorem dX2_worked_249 : decode cX2_worked 249 = .ok (.isub, 1) := dk_100 (dk_at dksX2_worked_10 14 rfl rfl)
theorem dX2_worked_250 : decode cX2_worked 250 = .ok (.laload, 1) := dk_47 (dk_at dksX2_worked_10 15 rfl rfl)
theorem dX2_worked_251 : decode cX2_worked 251 = .ok (.lneg, 1) := dk_117 (dk_at dksX2_worked_10 16 rfl rfl)
theorem dX2_worked_252 : decode cX2_worked 252 = .ok (.goto 12, 3) := dk_167 0 12 (dk_at dksX2_worked_10 17 rfl rfl)
theorem dX2_worked_255 : decode cX2_worked 255 = .ok (.aload_n 0, 1) := dk_42 (dk_at dksX2_worked_10 20 rfl rfl)
theorem dX2_worked_256 : decode cX2_worked 256 = .ok (.getfield 35, 3) := dk_180 0 35 (dk_at dksX2_worked_10 21 rfl rfl)
theorem dX2_worked_259 : decode cX2_worked 259 = .ok (.iload 5, 2) := dk_21 5 (dk_at dksX2_worked_11 0 rfl rfl)
theorem dX2_worked_261 : decode cX2_worked 261 = .ok (.iconst 1, 1) := dk_4 (dk_at dksX2_worked_11 2 rfl rfl)
theorem dX2_worked_262 : decode cX2_worked 262 = .ok (.isub, 1) := dk_100 (dk_at dksX2_worked_11 3 rfl rfl)
theorem dX2_worked_263 : decode cX2_worked 263 = .ok (.laload, 1) := dk_47 (dk_at dksX2_worked_11 4 rfl rfl)
theorem dX2_worked_264 : decode cX2_worked 264 = .ok (.lastore, 1) := dk_80 (dk_at dksX2_worked_11 5 rfl rfl)
theorem dX2_worked_265 : decode cX2_worked 265 = .ok (.goto 202, 3) := dk_167 0 202 (dk_at dksX2_worked_11 6 rfl rfl)
theorem dX2_worked_268 : decode cX2_worked 268 = .ok (.iload 8, 2) := dk_21 8 (dk_at dksX2_worked_11 9 rfl rfl)
theorem dX2_worked_270 : decode cX2_worked 270 = .ok (.bipush 10, 2) := dk_16 10 (dk_at dksX2_worked_11 11 rfl rfl)
theorem dX2_worked_272 : decode cX2_worked 272 = .ok (.if_icmp .ge 39, 3) := dk_162 0 39 (dk_at dksX2_worked_11 13 rfl rfl)
theorem dX2_worked_275 : decode cX2_worked 275 = .ok (.iinc 5 (-1), 3) := dk_132 5 255 (dk_at dksX2_worked_11 16 rfl rfl)
theorem dX2_worked_278 : decode cX2_worked 278 = .ok (.aload_n 0, 1) := dk_42 (dk_at dksX2_worked_11 19 rfl rfl)
theorem dX2_worked_279 : decode cX2_worked 279 = .ok (.getfield 35, 3) := dk_180 0 35 (dk_at dksX2_worked_11 20 rfl rfl)
theorem dX2_worked_282 : decode cX2_worked 282 = .ok (.iload 5, 2) := dk_21 5 (dk_at dksX2_worked_12 0 rfl rfl)
theorem dX2_worked_284 : decode cX2_worked 284 = .ok (.iconst 1, 1) := dk_4 (dk_at dksX2_worked_12 2 rfl rfl)
theorem dX2_worked_285 : decode cX2_worked 285 = .ok (.isub, 1) := dk_100 (dk_at dksX2_worked_12 3 rfl rfl)
theorem dX2_worked_286 : decode cX2_worked 286 = .ok (.iload 8, 2) := dk_21 8 (dk_at dksX2_worked_12 4 rfl rfl)
theorem dX2_worked_288 : decode cX2_worked 288 = .ok (.aload_n 0, 1) := dk_42 (dk_at dksX2_worked_12 6 rfl rfl)
theorem dX2_worked_289 : decode cX2_worked 289 = .ok (.getfield 35, 3) := dk_180 0 35 (dk_at dksX2_worked_12 7 rfl rfl)
theorem dX2_worked_292 : decode cX2_worked 292 = .ok (.iload 5, 2) := dk_21 5 (dk_at dksX2_worked_12 10 rfl rfl)
theorem dX2_worked_294 : decode cX2_worked 294 = .ok (.iconst 1, 1) := dk_4 (dk_at dksX2_worked_12 12 rfl rfl)
theorem dX2_worked_295 : decode cX2_worked 295 = .ok (.isub, 1) := dk_100 (dk_at dksX2_worked_12 13 rfl rfl)
theorem dX2_worked_296 : decode cX2_worked 296 = .ok (.laload, 1) := dk_47 (dk_at dksX2_worked_12 14 rfl rfl)
theorem dX2_worked_297 : decode cX2_worked 297 = .ok (.aload_n 0, 1) := dk_42 (dk_at dksX2_worked_12 15 rfl rfl)
theorem dX2_worked_298 : decode cX2_worked 298 = .ok (.getfield 35, 3) := dk_180 0 35 (dk_at dksX2_worked_12 16 rfl rfl)
theorem dX2_worked_301 : decode cX2_worked 301 = .ok (.iload 5, 2) := dk_21 5 (dk_at dksX2_worked_12 19 rfl rfl)
theorem dX2_worked_303 : decode cX2_worked 303 = .ok (.laload, 1) := dk_47 (dk_at dksX2_worked_12 21 rfl rfl)
theorem dX2_worked_304 : decode cX2_worked 304 = .ok (.invokestatic 275, 3) := dk_184 1 19 (dk_at dksX2_worked_13 0 rfl rfl)
theorem dX2_worked_307 : decode cX2_worked 307 = .ok (.lastore, 1) := dk_80 (dk_at dksX2_worked_13 3 rfl rfl)
theorem dX2_worked_308 : decode cX2_worked 308 = .ok (.goto 159, 3) := dk_167 0 159 (dk_at dksX2_worked_13 4 rfl rfl)
theorem dX2_worked_311 : decode cX2_worked 311 = .ok (.iload 8, 2) := dk_21 8 (dk_at dksX2_worked_13 7 rfl rfl)
theorem dX2_worked_313 : decode cX2_worked 313 = .ok (.bipush 20, 2) := dk_16 20 (dk_at dksX2_worked_13 9 rfl rfl)
theorem dX2_worked_315 : decode cX2_worked 315 = .ok (.if_icmp .ge 40, 3) := dk_162 0 40 (dk_at dksX2_worked_13 11 rfl rfl)
theorem dX2_worked_318 : decode cX2_worked 318 = .ok (.iinc 5 (-2), 3) := dk_132 5 254 (dk_at dksX2_worked_13 14 rfl rfl)
theorem dX2_worked_321 : decode cX2_worked 321 = .ok (.aload_n 0, 1) := dk_42 (dk_at dksX2_worked_13 17 rfl rfl)
theorem dX2_worked_322 : decode cX2_worked 322 = .ok (.getfield 39, 3) := dk_180 0 39 (dk_at dksX2_worked_13 18 rfl rfl)
theorem dX2_worked_325 : decode cX2_worked 325 = .ok (.iload 6, 2) := dk_21 6 (dk_at dksX2_worked_13 21 rfl rfl)
theorem dX2_worked_327 : decode cX2_worked 327 = .ok (.iload 8, 2) := dk_21 8 (dk_at dksX2_worked_14 0 rfl rfl)
theorem dX2_worked_329 : decode cX2_worked 329 = .ok (.aload_n 0, 1) := dk_42 (dk_at dksX2_worked_14 2 rfl rfl)
theorem dX2_worked_330 : decode cX2_worked 330 = .ok (.getfield 35, 3) := dk_180 0 35 (dk_at dksX2_worked_14 3 rfl rfl)
theorem dX2_worked_333 : decode cX2_worked 333 = .ok (.iload 5, 2) := dk_21 5 (dk_at dksX2_worked_14 6 rfl rfl)
theorem dX2_worked_335 : decode cX2_worked 335 = .ok (.laload, 1) := dk_47 (dk_at dksX2_worked_14 8 rfl rfl)
theorem dX2_worked_336 : decode cX2_worked 336 = .ok (.aload_n 0, 1) := dk_42 (dk_at dksX2_worked_14 9 rfl rfl)
theorem dX2_worked_337 : decode cX2_worked 337 = .ok (.getfield 35, 3) := dk_180 0 35 (dk_at dksX2_worked_14 10 rfl rfl)
theorem dX2_worked_340 : decode cX2_worked 340 = .ok (.iload 5, 2) := dk_21 5 (dk_at dksX2_worked_14 13 rfl rfl)
theorem dX2_worked_342 : decode cX2_worked 342 = .ok (.iconst 1, 1) := dk_4 (dk_at dksX2_worked_14 15 rfl rfl)
theorem dX2_worked_343 : decode cX2_worked 343 = .ok (.iadd, 1) := dk_96 (dk_at dksX2_worked_14 16 rfl rfl)
theorem dX2_worked_344 : decode cX2_worked 344 = .ok (.laload, 1) := dk_47 (dk_at dksX2_worked_14 17 rfl rfl)
theorem dX2_worked_345 : decode cX2_worked 345 = .ok (.invokestatic 279, 3) := dk_184 1 23 (dk_at dksX2_worked_14 18 rfl rfl)
theorem dX2_worked_348 : decode cX2_worked 348 = .ok (.bastore, 1) := dk_84 (dk_at dksX2_worked_14 21 rfl rfl)
theorem dX2_worked_349 : decode cX2_worked 349 = .ok (.iinc 6 1, 3) := dk_132 6 1 (dk_at dksX2_worked_15 0 rfl rfl)
theorem dX2_worked_352 : decode cX2_worked 352 = .ok (.goto 115, 3) := dk_167 0 115 (dk_at dksX2_worked_15 3 rfl rfl)
theorem dX2_worked_355 : decode cX2_worked 355 = .ok (.iload 8, 2) := dk_21 8 (dk_at dksX2_worked_15 6 rfl rfl)
theorem dX2_worked_357 : decode cX2_worked 357 = .ok (.bipush 20, 2) := dk_16 20 (dk_at dksX2_worked_15 8 rfl rfl)
theorem dX2_worked_359 : decode cX2_worked 359 = .ok (.if_icmp .ne 32, 3) := dk_160 0 32 (dk_at dksX2_worked_15 10 rfl rfl)
theorem dX2_worked_362 : decode cX2_worked 362 = .ok (.aload_n 0, 1) := dk_42 (dk_at dksX2_worked_15 13 rfl rfl)
theorem dX2_worked_363 : decode cX2_worked 363 = .ok (.getfield 39, 3) := dk_180 0 39 (dk_at dksX2_worked_15 14 rfl rfl)
theorem dX2_worked_366 : decode cX2_worked 366 = .ok (.iload 6, 2) := dk_21 6 (dk_at dksX2_worked_15 17 rfl rfl)
theorem dX2_worked_368 : decode cX2_worked 368 = .ok (.iconst 1, 1) := dk_4 (dk_at dksX2_worked_15 19 rfl rfl)
theorem dX2_worked_369 : decode cX2_worked 369 = .ok (.isub, 1) := dk_100 (dk_at dksX2_worked_15 20 rfl rfl)
theorem dX2_worked_370 : decode cX2_worked 370 = .ok (.aload_n 0, 1) := dk_42 (dk_at dksX2_worked_15 21 rfl rfl)
theorem dX2_worked_371 : decode cX2_worked 371 = .ok (.getfield 39, 3) := dk_180 0 39 (dk_at dksX2_worked_16 0 rfl rfl)
theorem dX2_worked_374 : decode cX2_worked 374 = .ok (.iload 6, 2) := dk_21 6 (dk_at dksX2_worked_16 3 rfl rfl)
theorem dX2_worked_376 : decode cX2_worked 376 = .ok (.iconst 1, 1) := dk_4 (dk_at dksX2_worked_16 5 rfl rfl)
theorem dX2_worked_377 : decode cX2_worked 377 = .ok (.isub, 1) := dk_100 (dk_at dksX2_worked_16 6 rfl rfl)
theorem dX2_worked_378 : decode cX2_worked 378 = .ok (.baload, 1) := dk_51 (dk_at dksX2_worked_16 7 rfl rfl)
theorem dX2_worked_379 : decode cX2_worked 379 = .ok (.ifCond .ne 7, 3) := dk_154 0 7 (dk_at dksX2_worked_16 8 rfl rfl)
theorem dX2_worked_382 : decode cX2_worked 382 = .ok (.iconst 1, 1) := dk_4 (dk_at dksX2_worked_16 11 rfl rfl)
theorem dX2_worked_383 : decode cX2_worked 383 = .ok (.goto 4, 3) := dk_167 0 4 (dk_at dksX2_worked_16 12 rfl rfl)
theorem dX2_worked_386 : decode cX2_worked 386 = .ok (.iconst 0, 1) := dk_3 (dk_at dksX2_worked_16 15 rfl rfl)
theorem dX2_worked_387 : decode cX2_worked 387 = .ok (.bastore, 1) := dk_84 (dk_at dksX2_worked_16 16 rfl rfl)
theorem dX2_worked_388 : decode cX2_worked 388 = .ok (.goto 79, 3) := dk_167 0 79 (dk_at dksX2_worked_16 17 rfl rfl)
theorem dX2_worked_391 : decode cX2_worked 391 = .ok (.iinc 6 (-1), 3) := dk_132 6 255 (dk_at dksX2_worked_16 20 rfl rfl)
theorem dX2_worked_394 : decode cX2_worked 394 = .ok (.aload_n 0, 1) := dk_42 (dk_at dksX2_worked_16 23 rfl rfl)
theorem dX2_worked_395 : decode cX2_worked 395 = .ok (.getfield 39, 3) := dk_180 0 39 (dk_at dksX2_worked_17 0 rfl rfl)
theorem dX2_worked_398 : decode cX2_worked 398 = .ok (.iload 6, 2) := dk_21 6 (dk_at dksX2_worked_17 3 rfl rfl)
theorem dX2_worked_400 : decode cX2_worked 400 = .ok (.iconst 1, 1) := dk_4 (dk_at dksX2_worked_17 5 rfl rfl)
theorem dX2_worked_401 : decode cX2_worked 401 = .ok (.isub, 1) := dk_100 (dk_at dksX2_worked_17 6 rfl rfl)
theorem dX2_worked_402 : decode cX2_worked 402 = .ok (.iload 8, 2) := dk_21 8 (dk_at dksX2_worked_17 7 rfl rfl)
theorem dX2_worked_404 : decode cX2_worked 404 = .ok (.bipush 21, 2) := dk_16 21 (dk_at dksX2_worked_17 9 rfl rfl)
theorem dX2_worked_406 : decode cX2_worked 406 = .ok (.if_icmp .ne 33, 3) := dk_160 0 33 (dk_at dksX2_worked_17 11 rfl rfl)
theorem dX2_worked_409 : decode cX2_worked 409 = .ok (.aload_n 0, 1) := dk_42 (dk_at dksX2_worked_17 14 rfl rfl)
theorem dX2_worked_410 : decode cX2_worked 410 = .ok (.getfield 39, 3) := dk_180 0 39 (dk_at dksX2_worked_17 15 rfl rfl)
theorem dX2_worked_413 : decode cX2_worked 413 = .ok (.iload 6, 2) := dk_21 6 (dk_at dksX2_worked_17 18 rfl rfl)
theorem dX2_worked_415 : decode cX2_worked 415 = .ok (.iconst 1, 1) := dk_4 (dk_at dksX2_worked_17 20 rfl rfl)
theorem dX2_worked_416 : decode cX2_worked 416 = .ok (.isub, 1) := dk_100 (dk_at dksX2_worked_17 21 rfl rfl)
theorem dX2_worked_417 : decode cX2_worked 417 = .ok (.baload, 1) := dk_51 (dk_at dksX2_worked_17 22 rfl rfl)
theorem dX2_worked_418 : decode cX2_worked 418 = .ok (.ifCond .eq 17, 3) := dk_153 0 17 (dk_at dksX2_worked_18 0 rfl rfl)
theorem dX2_worked_421 : decode cX2_worked 421 = .ok (.aload_n 0, 1) := dk_42 (dk_at dksX2_worked_18 3 rfl rfl)
theorem dX2_worked_422 : decode cX2_worked 422 = .ok (.getfield 39, 3) := dk_180 0 39 (dk_at dksX2_worked_18 4 rfl rfl)
theorem dX2_worked_425 : decode cX2_worked 425 = .ok (.iload 6, 2) := dk_21 6 (dk_at dksX2_worked_18 7 rfl rfl)
theorem dX2_worked_427 : decode cX2_worked 427 = .ok (.baload, 1) := dk_51 (dk_at dksX2_worked_18 9 rfl rfl)
theorem dX2_worked_428 : decode cX2_worked 428 = .ok (.ifCond .eq 7, 3) := dk_153 0 7 (dk_at dksX2_worked_18 10 rfl rfl)
theorem dX2_worked_431 : decode cX2_worked 431 = .ok (.iconst 1, 1) := dk_4 (dk_at dksX2_worked_18 13 rfl rfl)
theorem dX2_worked_432 : decode cX2_worked 432 = .ok (.goto 34, 3) := dk_167 0 34 (dk_at dksX2_worked_18 14 rfl rfl)
theorem dX2_worked_435 : decode cX2_worked 435 = .ok (.iconst 0, 1) := dk_3 (dk_at dksX2_worked_18 17 rfl rfl)
theorem dX2_worked_436 : decode cX2_worked 436 = .ok (.goto 30, 3) := dk_167 0 30 (dk_at dksX2_worked_18 18 rfl rfl)
theorem dX2_worked_439 : decode cX2_worked 439 = .ok (.aload_n 0, 1) := dk_42 (dk_at dksX2_worked_18 21 rfl rfl)
theorem dX2_worked_440 : decode cX2_worked 440 = .ok (.getfield 39, 3) := dk_180 0 39 (dk_at dksX2_worked_19 0 rfl rfl)
theorem dX2_worked_443 : decode cX2_worked 443 = .ok (.iload 6, 2) := dk_21 6 (dk_at dksX2_worked_19 3 rfl rfl)
theorem dX2_worked_445 : decode cX2_worked 445 = .ok (.iconst 1, 1) := dk_4 (dk_at dksX2_worked_19 5 rfl rfl)
theorem dX2_worked_446 : decode cX2_worked 446 = .ok (.isub, 1) := dk_100 (dk_at dksX2_worked_19 6 rfl rfl)
theorem dX2_worked_447 : decode cX2_worked 447 = .ok (.baload, 1) := dk_51 (dk_at dksX2_worked_19 7 rfl rfl)
theorem dX2_worked_448 : decode cX2_worked 448 = .ok (.ifCond .ne 13, 3) := dk_154 0 13 (dk_at dksX2_worked_19 8 rfl rfl)
theorem dX2_worked_451 : decode cX2_worked 451 = .ok (.aload_n 0, 1) := dk_42 (dk_at dksX2_worked_19 11 rfl rfl)
theorem dX2_worked_452 : decode cX2_worked 452 = .ok (.getfield 39, 3) := dk_180 0 39 (dk_at dksX2_worked_19 12 rfl rfl)
theorem dX2_worked_455 : decode cX2_worked 455 = .ok (.iload 6, 2) := dk_21 6 (dk_at dksX2_worked_19 15 rfl rfl)
theorem dX2_worked_457 : decode cX2_worked 457 = .ok (.baload, 1) := dk_51 (dk_at dksX2_worked_19 17 rfl rfl)
theorem dX2_worked_458 : decode cX2_worked 458 = .ok (.ifCond .eq 7, 3) := dk_153 0 7 (dk_at dksX2_worked_19 18 rfl rfl)
theorem dX2_worked_461 : decode cX2_worked 461 = .ok (.iconst 1, 1) := dk_4 (dk_at dksX2_worked_19 21 rfl rfl)
theorem dX2_worked_462 : decode cX2_worked 462 = .ok (.goto 4, 3) := dk_167 0 4 (dk_at dksX2_worked_20 0 rfl rfl)
theorem dX2_worked_465 : decode cX2_worked 465 = .ok (.iconst 0, 1) := dk_3 (dk_at dksX2_worked_20 3 rfl rfl)
theorem dX2_worked_466 : decode cX2_worked 466 = .ok (.bastore, 1) := dk_84 (dk_at dksX2_worked_20 4 rfl rfl)
theorem dX2_worked_467 : decode cX2_worked 467 = .ok (.iinc 7 1, 3) := dk_132 7 1 (dk_at dksX2_worked_20 5 rfl rfl)
theorem dX2_worked_470 : decode cX2_worked 470 = .ok (.goto (-430), 3) := dk_167 254 82 (dk_at dksX2_worked_20 8 rfl rfl)
theorem dX2_worked_473 : decode cX2_worked 473 = .ok (.aload_n 0, 1) := dk_42 (dk_at dksX2_worked_20 11 rfl rfl)
theorem dX2_worked_474 : decode cX2_worked 474 = .ok (.getfield 35, 3) := dk_180 0 35 (dk_at dksX2_worked_20 12 rfl rfl)
theorem dX2_worked_477 : decode cX2_worked 477 = .ok (.iconst 0, 1) := dk_3 (dk_at dksX2_worked_20 15 rfl rfl)
theorem dX2_worked_478 : decode cX2_worked 478 = .ok (.laload, 1) := dk_47 (dk_at dksX2_worked_20 16 rfl rfl)
theorem dX2_worked_479 : decode cX2_worked 479 = .ok (.l2i, 1) := dk_136 (dk_at dksX2_worked_20 17 rfl rfl)
theorem dX2_worked_480 : decode cX2_worked 480 = .ok (.ireturn, 1) := dk_172 (dk_at dksX2_worked_20 18 rfl rfl)
abbrev cX2_agoOf : ByteArray := prog_19_method_60_code
def yX2_agoOf : MethodName := ⟨RX2, "agoOf", "(II)I"⟩
def dkwX2_agoOf_1 : List UInt8 := [28, 182, 1, 13, 172]
abbrev dktX2_agoOf_1 : List UInt8 := dkwX2_agoOf_1 ++ []
def dkwX2_agoOf_0 : List UInt8 := [42, 180, 1, 7, 27, 100, 42, 180, 1, 10, 162, 0, 7, 3, 167, 0, 14, 42, 42, 180, 1, 7, 27, 100]
abbrev dktX2_agoOf_0 : List UInt8 := dkwX2_agoOf_0 ++ dktX2_agoOf_1
theorem dksX2_agoOf_0 : cX2_agoOf.data.toList.drop 0 = dktX2_agoOf_0 := by decide +kernel
theorem dksX2_agoOf_1 : cX2_agoOf.data.toList.drop 24 = dktX2_agoOf_1 := dk_seg dksX2_agoOf_0 24 rfl rfl
theorem dX2_agoOf_0 : decode cX2_agoOf 0 = .ok (.aload_n 0, 1) := dk_42 (dk_at dksX2_agoOf_0 0 rfl rfl)
theorem dX2_agoOf_1 : decode cX2_agoOf 1 = .ok (.getfield 263, 3) := dk_180 1 7 (dk_at dksX2_agoOf_0 1 rfl rfl)
theorem dX2_agoOf_4 : decode cX2_agoOf 4 = .ok (.iload_n 1, 1) := dk_27 (dk_at dksX2_agoOf_0 4 rfl rfl)
theorem dX2_agoOf_5 : decode cX2_agoOf 5 = .ok (.isub, 1) := dk_100 (dk_at dksX2_agoOf_0 5 rfl rfl)
theorem dX2_agoOf_6 : decode cX2_agoOf 6 = .ok (.aload_n 0, 1) := dk_42 (dk_at dksX2_agoOf_0 6 rfl rfl)
theorem dX2_agoOf_7 : decode cX2_agoOf 7 = .ok (.getfield 266, 3) := dk_180 1 10 (dk_at dksX2_agoOf_0 7 rfl rfl)
theorem dX2_agoOf_10 : decode cX2_agoOf 10 = .ok (.if_icmp .ge 7, 3) := dk_162 0 7 (dk_at dksX2_agoOf_0 10 rfl rfl)
theorem dX2_agoOf_13 : decode cX2_agoOf 13 = .ok (.iconst 0, 1) := dk_3 (dk_at dksX2_agoOf_0 13 rfl rfl)
theorem dX2_agoOf_14 : decode cX2_agoOf 14 = .ok (.goto 14, 3) := dk_167 0 14 (dk_at dksX2_agoOf_0 14 rfl rfl)
theorem dX2_agoOf_17 : decode cX2_agoOf 17 = .ok (.aload_n 0, 1) := dk_42 (dk_at dksX2_agoOf_0 17 rfl rfl)
theorem dX2_agoOf_18 : decode cX2_agoOf 18 = .ok (.aload_n 0, 1) := dk_42 (dk_at dksX2_agoOf_0 18 rfl rfl)
theorem dX2_agoOf_19 : decode cX2_agoOf 19 = .ok (.getfield 263, 3) := dk_180 1 7 (dk_at dksX2_agoOf_0 19 rfl rfl)
theorem dX2_agoOf_22 : decode cX2_agoOf 22 = .ok (.iload_n 1, 1) := dk_27 (dk_at dksX2_agoOf_0 22 rfl rfl)
theorem dX2_agoOf_23 : decode cX2_agoOf 23 = .ok (.isub, 1) := dk_100 (dk_at dksX2_agoOf_0 23 rfl rfl)
theorem dX2_agoOf_24 : decode cX2_agoOf 24 = .ok (.iload_n 2, 1) := dk_28 (dk_at dksX2_agoOf_1 0 rfl rfl)
theorem dX2_agoOf_25 : decode cX2_agoOf 25 = .ok (.invokevirtual 269, 3) := dk_182 1 13 (dk_at dksX2_agoOf_1 1 rfl rfl)
theorem dX2_agoOf_28 : decode cX2_agoOf 28 = .ok (.ireturn, 1) := dk_172 (dk_at dksX2_agoOf_1 4 rfl rfl)
abbrev cX2_pastOf : ByteArray := prog_19_method_59_code
def yX2_pastOf : MethodName := ⟨RX2, "pastOf", "(II)I"⟩
def dkwX2_pastOf_0 : List UInt8 := [42, 180, 0, 7, 17, 2, 90, 16, 6, 27, 17, 6, 0, 112, 104, 96, 28, 96, 46, 172]
abbrev dktX2_pastOf_0 : List UInt8 := dkwX2_pastOf_0 ++ []
theorem dksX2_pastOf_0 : cX2_pastOf.data.toList.drop 0 = dktX2_pastOf_0 := by decide +kernel
theorem dX2_pastOf_0 : decode cX2_pastOf 0 = .ok (.aload_n 0, 1) := dk_42 (dk_at dksX2_pastOf_0 0 rfl rfl)
theorem dX2_pastOf_1 : decode cX2_pastOf 1 = .ok (.getfield 7, 3) := dk_180 0 7 (dk_at dksX2_pastOf_0 1 rfl rfl)
theorem dX2_pastOf_4 : decode cX2_pastOf 4 = .ok (.sipush 602, 3) := dk_17 2 90 (dk_at dksX2_pastOf_0 4 rfl rfl)
theorem dX2_pastOf_7 : decode cX2_pastOf 7 = .ok (.bipush 6, 2) := dk_16 6 (dk_at dksX2_pastOf_0 7 rfl rfl)
theorem dX2_pastOf_9 : decode cX2_pastOf 9 = .ok (.iload_n 1, 1) := dk_27 (dk_at dksX2_pastOf_0 9 rfl rfl)
theorem dX2_pastOf_10 : decode cX2_pastOf 10 = .ok (.sipush 1536, 3) := dk_17 6 0 (dk_at dksX2_pastOf_0 10 rfl rfl)
theorem dX2_pastOf_13 : decode cX2_pastOf 13 = .ok (.irem, 1) := dk_112 (dk_at dksX2_pastOf_0 13 rfl rfl)
theorem dX2_pastOf_14 : decode cX2_pastOf 14 = .ok (.imul, 1) := dk_104 (dk_at dksX2_pastOf_0 14 rfl rfl)
theorem dX2_pastOf_15 : decode cX2_pastOf 15 = .ok (.iadd, 1) := dk_96 (dk_at dksX2_pastOf_0 15 rfl rfl)
theorem dX2_pastOf_16 : decode cX2_pastOf 16 = .ok (.iload_n 2, 1) := dk_28 (dk_at dksX2_pastOf_0 16 rfl rfl)
theorem dX2_pastOf_17 : decode cX2_pastOf 17 = .ok (.iadd, 1) := dk_96 (dk_at dksX2_pastOf_0 17 rfl rfl)
theorem dX2_pastOf_18 : decode cX2_pastOf 18 = .ok (.iaload, 1) := dk_46 (dk_at dksX2_pastOf_0 18 rfl rfl)
theorem dX2_pastOf_19 : decode cX2_pastOf 19 = .ok (.ireturn, 1) := dk_172 (dk_at dksX2_pastOf_0 19 rfl rfl)
abbrev cX2_two : ByteArray := prog_19_method_57_code
def yX2_two : MethodName := ⟨RX2, "two", "(IJJ)J"⟩
def dkwX2_two_3 : List UInt8 := [154, 0, 7, 9, 167, 0, 9, 31, 33, 109, 184, 1, 3, 173]
abbrev dktX2_two_3 : List UInt8 := dkwX2_two_3 ++ []
def dkwX2_two_2 : List UInt8 := [31, 33, 97, 184, 1, 3, 173, 31, 33, 101, 184, 1, 3, 173, 31, 33, 105, 184, 1, 3, 173, 33, 9, 148]
abbrev dktX2_two_2 : List UInt8 := dkwX2_two_2 ++ dktX2_two_3
def dkwX2_two_1 : List UInt8 := [170, 0, 0, 0, 0, 0, 48, 0, 0, 0, 6, 0, 0, 0, 8, 0, 0, 0, 27, 0, 0, 0, 34, 0, 0, 0, 41]
abbrev dktX2_two_1 : List UInt8 := dkwX2_two_1 ++ dktX2_two_2
def dkwX2_two_0 : List UInt8 := [26]
abbrev dktX2_two_0 : List UInt8 := dkwX2_two_0 ++ dktX2_two_1
theorem dksX2_two_0 : cX2_two.data.toList.drop 0 = dktX2_two_0 := by decide +kernel
theorem dksX2_two_1 : cX2_two.data.toList.drop 1 = dktX2_two_1 := dk_seg dksX2_two_0 1 rfl rfl
theorem dksX2_two_2 : cX2_two.data.toList.drop 28 = dktX2_two_2 := dk_seg dksX2_two_1 27 rfl rfl
theorem dksX2_two_3 : cX2_two.data.toList.drop 52 = dktX2_two_3 := dk_seg dksX2_two_2 24 rfl rfl
theorem dX2_two_0 : decode cX2_two 0 = .ok (.iload_n 0, 1) := dk_26 (dk_at dksX2_two_0 0 rfl rfl)
theorem dX2_two_1 : decode cX2_two 1 = .ok (.tableswitch 48 6 8 #[27, 34, 41], 27) := by decide +kernel
theorem dX2_two_28 : decode cX2_two 28 = .ok (.lload_n 1, 1) := dk_31 (dk_at dksX2_two_2 0 rfl rfl)
theorem dX2_two_29 : decode cX2_two 29 = .ok (.lload_n 3, 1) := dk_33 (dk_at dksX2_two_2 1 rfl rfl)
theorem dX2_two_30 : decode cX2_two 30 = .ok (.ladd, 1) := dk_97 (dk_at dksX2_two_2 2 rfl rfl)
theorem dX2_two_31 : decode cX2_two 31 = .ok (.invokestatic 259, 3) := dk_184 1 3 (dk_at dksX2_two_2 3 rfl rfl)
theorem dX2_two_34 : decode cX2_two 34 = .ok (.lreturn, 1) := dk_173 (dk_at dksX2_two_2 6 rfl rfl)
theorem dX2_two_35 : decode cX2_two 35 = .ok (.lload_n 1, 1) := dk_31 (dk_at dksX2_two_2 7 rfl rfl)
theorem dX2_two_36 : decode cX2_two 36 = .ok (.lload_n 3, 1) := dk_33 (dk_at dksX2_two_2 8 rfl rfl)
theorem dX2_two_37 : decode cX2_two 37 = .ok (.lsub, 1) := dk_101 (dk_at dksX2_two_2 9 rfl rfl)
theorem dX2_two_38 : decode cX2_two 38 = .ok (.invokestatic 259, 3) := dk_184 1 3 (dk_at dksX2_two_2 10 rfl rfl)
theorem dX2_two_41 : decode cX2_two 41 = .ok (.lreturn, 1) := dk_173 (dk_at dksX2_two_2 13 rfl rfl)
theorem dX2_two_42 : decode cX2_two 42 = .ok (.lload_n 1, 1) := dk_31 (dk_at dksX2_two_2 14 rfl rfl)
theorem dX2_two_43 : decode cX2_two 43 = .ok (.lload_n 3, 1) := dk_33 (dk_at dksX2_two_2 15 rfl rfl)
theorem dX2_two_44 : decode cX2_two 44 = .ok (.lmul, 1) := dk_105 (dk_at dksX2_two_2 16 rfl rfl)
theorem dX2_two_45 : decode cX2_two 45 = .ok (.invokestatic 259, 3) := dk_184 1 3 (dk_at dksX2_two_2 17 rfl rfl)
theorem dX2_two_48 : decode cX2_two 48 = .ok (.lreturn, 1) := dk_173 (dk_at dksX2_two_2 20 rfl rfl)
theorem dX2_two_49 : decode cX2_two 49 = .ok (.lload_n 3, 1) := dk_33 (dk_at dksX2_two_2 21 rfl rfl)
theorem dX2_two_50 : decode cX2_two 50 = .ok (.lconst 0, 1) := dk_9 (dk_at dksX2_two_2 22 rfl rfl)
theorem dX2_two_51 : decode cX2_two 51 = .ok (.lcmp, 1) := dk_148 (dk_at dksX2_two_2 23 rfl rfl)
theorem dX2_two_52 : decode cX2_two 52 = .ok (.ifCond .ne 7, 3) := dk_154 0 7 (dk_at dksX2_two_3 0 rfl rfl)
theorem dX2_two_55 : decode cX2_two 55 = .ok (.lconst 0, 1) := dk_9 (dk_at dksX2_two_3 3 rfl rfl)
theorem dX2_two_56 : decode cX2_two 56 = .ok (.goto 9, 3) := dk_167 0 9 (dk_at dksX2_two_3 4 rfl rfl)
theorem dX2_two_59 : decode cX2_two 59 = .ok (.lload_n 1, 1) := dk_31 (dk_at dksX2_two_3 7 rfl rfl)
theorem dX2_two_60 : decode cX2_two 60 = .ok (.lload_n 3, 1) := dk_33 (dk_at dksX2_two_3 8 rfl rfl)
theorem dX2_two_61 : decode cX2_two 61 = .ok (.ldiv, 1) := dk_109 (dk_at dksX2_two_3 9 rfl rfl)
theorem dX2_two_62 : decode cX2_two 62 = .ok (.invokestatic 259, 3) := dk_184 1 3 (dk_at dksX2_two_3 10 rfl rfl)
theorem dX2_two_65 : decode cX2_two 65 = .ok (.lreturn, 1) := dk_173 (dk_at dksX2_two_3 13 rfl rfl)
abbrev cX2_clip : ByteArray := prog_19_method_56_code
def yX2_clip : MethodName := ⟨RX2, "clip", "(J)J"⟩
def dkwX2_clip_1 : List UInt8 := [20, 1, 1, 167, 0, 4, 30, 173]
abbrev dktX2_clip_1 : List UInt8 := dkwX2_clip_1 ++ []
def dkwX2_clip_0 : List UInt8 := [30, 20, 0, 255, 148, 158, 0, 9, 20, 0, 255, 167, 0, 18, 30, 20, 1, 1, 148, 156, 0, 9]
abbrev dktX2_clip_0 : List UInt8 := dkwX2_clip_0 ++ dktX2_clip_1
theorem dksX2_clip_0 : cX2_clip.data.toList.drop 0 = dktX2_clip_0 := by decide +kernel
theorem dksX2_clip_1 : cX2_clip.data.toList.drop 22 = dktX2_clip_1 := dk_seg dksX2_clip_0 22 rfl rfl
theorem dX2_clip_0 : decode cX2_clip 0 = .ok (.lload_n 0, 1) := dk_30 (dk_at dksX2_clip_0 0 rfl rfl)
theorem dX2_clip_1 : decode cX2_clip 1 = .ok (.ldc2_w 255, 3) := dk_20 0 255 (dk_at dksX2_clip_0 1 rfl rfl)
theorem dX2_clip_4 : decode cX2_clip 4 = .ok (.lcmp, 1) := dk_148 (dk_at dksX2_clip_0 4 rfl rfl)
theorem dX2_clip_5 : decode cX2_clip 5 = .ok (.ifCond .le 9, 3) := dk_158 0 9 (dk_at dksX2_clip_0 5 rfl rfl)
theorem dX2_clip_8 : decode cX2_clip 8 = .ok (.ldc2_w 255, 3) := dk_20 0 255 (dk_at dksX2_clip_0 8 rfl rfl)
theorem dX2_clip_11 : decode cX2_clip 11 = .ok (.goto 18, 3) := dk_167 0 18 (dk_at dksX2_clip_0 11 rfl rfl)
theorem dX2_clip_14 : decode cX2_clip 14 = .ok (.lload_n 0, 1) := dk_30 (dk_at dksX2_clip_0 14 rfl rfl)
theorem dX2_clip_15 : decode cX2_clip 15 = .ok (.ldc2_w 257, 3) := dk_20 1 1 (dk_at dksX2_clip_0 15 rfl rfl)
theorem dX2_clip_18 : decode cX2_clip 18 = .ok (.lcmp, 1) := dk_148 (dk_at dksX2_clip_0 18 rfl rfl)
theorem dX2_clip_19 : decode cX2_clip 19 = .ok (.ifCond .ge 9, 3) := dk_156 0 9 (dk_at dksX2_clip_0 19 rfl rfl)
theorem dX2_clip_22 : decode cX2_clip 22 = .ok (.ldc2_w 257, 3) := dk_20 1 1 (dk_at dksX2_clip_1 0 rfl rfl)
theorem dX2_clip_25 : decode cX2_clip 25 = .ok (.goto 4, 3) := dk_167 0 4 (dk_at dksX2_clip_1 3 rfl rfl)
theorem dX2_clip_28 : decode cX2_clip 28 = .ok (.lload_n 0, 1) := dk_30 (dk_at dksX2_clip_1 6 rfl rfl)
theorem dX2_clip_29 : decode cX2_clip 29 = .ok (.lreturn, 1) := dk_173 (dk_at dksX2_clip_1 7 rfl rfl)
abbrev cX2_isAsked : ByteArray := prog_19_method_58_code
def yX2_isAsked : MethodName := ⟨RX2, "isAsked", "(IJJ)Z"⟩
def dkwX2_isAsked_4 : List UInt8 := [167, 0, 18, 3, 167, 0, 14, 31, 33, 148, 153, 0, 7, 4, 167, 0, 4, 3, 172]
abbrev dktX2_isAsked_4 : List UInt8 := dkwX2_isAsked_4 ++ []
def dkwX2_isAsked_3 : List UInt8 := [155, 0, 7, 4, 167, 0, 38, 3, 167, 0, 34, 26, 16, 14, 160, 0, 17, 31, 33, 148, 154, 0, 7, 4]
abbrev dktX2_isAsked_3 : List UInt8 := dkwX2_isAsked_3 ++ dktX2_isAsked_4
def dkwX2_isAsked_2 : List UInt8 := [33, 148, 158, 0, 7, 4, 167, 0, 58, 3, 167, 0, 54, 26, 16, 13, 160, 0, 17, 31, 33, 148]
abbrev dktX2_isAsked_2 : List UInt8 := dkwX2_isAsked_2 ++ dktX2_isAsked_3
def dkwX2_isAsked_1 : List UInt8 := [160, 0, 17, 31, 33, 148, 157, 0, 7, 4, 167, 0, 78, 3, 167, 0, 74, 26, 16, 12, 160, 0, 17, 31]
abbrev dktX2_isAsked_1 : List UInt8 := dkwX2_isAsked_1 ++ dktX2_isAsked_2
def dkwX2_isAsked_0 : List UInt8 := [26, 16, 10, 160, 0, 17, 31, 33, 148, 156, 0, 7, 4, 167, 0, 98, 3, 167, 0, 94, 26, 16, 11]
abbrev dktX2_isAsked_0 : List UInt8 := dkwX2_isAsked_0 ++ dktX2_isAsked_1
theorem dksX2_isAsked_0 : cX2_isAsked.data.toList.drop 0 = dktX2_isAsked_0 := by decide +kernel
theorem dksX2_isAsked_1 : cX2_isAsked.data.toList.drop 23 = dktX2_isAsked_1 := dk_seg dksX2_isAsked_0 23 rfl rfl
theorem dksX2_isAsked_2 : cX2_isAsked.data.toList.drop 47 = dktX2_isAsked_2 := dk_seg dksX2_isAsked_1 24 rfl rfl
theorem dksX2_isAsked_3 : cX2_isAsked.data.toList.drop 69 = dktX2_isAsked_3 := dk_seg dksX2_isAsked_2 22 rfl rfl
theorem dksX2_isAsked_4 : cX2_isAsked.data.toList.drop 93 = dktX2_isAsked_4 := dk_seg dksX2_isAsked_3 24 rfl rfl
theorem dX2_isAsked_0 : decode cX2_isAsked 0 = .ok (.iload_n 0, 1) := dk_26 (dk_at dksX2_isAsked_0 0 rfl rfl)
theorem dX2_isAsked_1 : decode cX2_isAsked 1 = .ok (.bipush 10, 2) := dk_16 10 (dk_at dksX2_isAsked_0 1 rfl rfl)
theorem dX2_isAsked_3 : decode cX2_isAsked 3 = .ok (.if_icmp .ne 17, 3) := dk_160 0 17 (dk_at dksX2_isAsked_0 3 rfl rfl)
theorem dX2_isAsked_6 : decode cX2_isAsked 6 = .ok (.lload_n 1, 1) := dk_31 (dk_at dksX2_isAsked_0 6 rfl rfl)
theorem dX2_isAsked_7 : decode cX2_isAsked 7 = .ok (.lload_n 3, 1) := dk_33 (dk_at dksX2_isAsked_0 7 rfl rfl)
theorem dX2_isAsked_8 : decode cX2_isAsked 8 = .ok (.lcmp, 1) := dk_148 (dk_at dksX2_isAsked_0 8 rfl rfl)
theorem dX2_isAsked_9 : decode cX2_isAsked 9 = .ok (.ifCond .ge 7, 3) := dk_156 0 7 (dk_at dksX2_isAsked_0 9 rfl rfl)
theorem dX2_isAsked_12 : decode cX2_isAsked 12 = .ok (.iconst 1, 1) := dk_4 (dk_at dksX2_isAsked_0 12 rfl rfl)
theorem dX2_isAsked_13 : decode cX2_isAsked 13 = .ok (.goto 98, 3) := dk_167 0 98 (dk_at dksX2_isAsked_0 13 rfl rfl)
theorem dX2_isAsked_16 : decode cX2_isAsked 16 = .ok (.iconst 0, 1) := dk_3 (dk_at dksX2_isAsked_0 16 rfl rfl)
theorem dX2_isAsked_17 : decode cX2_isAsked 17 = .ok (.goto 94, 3) := dk_167 0 94 (dk_at dksX2_isAsked_0 17 rfl rfl)
theorem dX2_isAsked_20 : decode cX2_isAsked 20 = .ok (.iload_n 0, 1) := dk_26 (dk_at dksX2_isAsked_0 20 rfl rfl)
theorem dX2_isAsked_21 : decode cX2_isAsked 21 = .ok (.bipush 11, 2) := dk_16 11 (dk_at dksX2_isAsked_0 21 rfl rfl)
theorem dX2_isAsked_23 : decode cX2_isAsked 23 = .ok (.if_icmp .ne 17, 3) := dk_160 0 17 (dk_at dksX2_isAsked_1 0 rfl rfl)
theorem dX2_isAsked_26 : decode cX2_isAsked 26 = .ok (.lload_n 1, 1) := dk_31 (dk_at dksX2_isAsked_1 3 rfl rfl)
theorem dX2_isAsked_27 : decode cX2_isAsked 27 = .ok (.lload_n 3, 1) := dk_33 (dk_at dksX2_isAsked_1 4 rfl rfl)
theorem dX2_isAsked_28 : decode cX2_isAsked 28 = .ok (.lcmp, 1) := dk_148 (dk_at dksX2_isAsked_1 5 rfl rfl)
theorem dX2_isAsked_29 : decode cX2_isAsked 29 = .ok (.ifCond .gt 7, 3) := dk_157 0 7 (dk_at dksX2_isAsked_1 6 rfl rfl)
theorem dX2_isAsked_32 : decode cX2_isAsked 32 = .ok (.iconst 1, 1) := dk_4 (dk_at dksX2_isAsked_1 9 rfl rfl)
theorem dX2_isAsked_33 : decode cX2_isAsked 33 = .ok (.goto 78, 3) := dk_167 0 78 (dk_at dksX2_isAsked_1 10 rfl rfl)
theorem dX2_isAsked_36 : decode cX2_isAsked 36 = .ok (.iconst 0, 1) := dk_3 (dk_at dksX2_isAsked_1 13 rfl rfl)
theorem dX2_isAsked_37 : decode cX2_isAsked 37 = .ok (.goto 74, 3) := dk_167 0 74 (dk_at dksX2_isAsked_1 14 rfl rfl)
theorem dX2_isAsked_40 : decode cX2_isAsked 40 = .ok (.iload_n 0, 1) := dk_26 (dk_at dksX2_isAsked_1 17 rfl rfl)
theorem dX2_isAsked_41 : decode cX2_isAsked 41 = .ok (.bipush 12, 2) := dk_16 12 (dk_at dksX2_isAsked_1 18 rfl rfl)
theorem dX2_isAsked_43 : decode cX2_isAsked 43 = .ok (.if_icmp .ne 17, 3) := dk_160 0 17 (dk_at dksX2_isAsked_1 20 rfl rfl)
theorem dX2_isAsked_46 : decode cX2_isAsked 46 = .ok (.lload_n 1, 1) := dk_31 (dk_at dksX2_isAsked_1 23 rfl rfl)
theorem dX2_isAsked_47 : decode cX2_isAsked 47 = .ok (.lload_n 3, 1) := dk_33 (dk_at dksX2_isAsked_2 0 rfl rfl)
theorem dX2_isAsked_48 : decode cX2_isAsked 48 = .ok (.lcmp, 1) := dk_148 (dk_at dksX2_isAsked_2 1 rfl rfl)
theorem dX2_isAsked_49 : decode cX2_isAsked 49 = .ok (.ifCond .le 7, 3) := dk_158 0 7 (dk_at dksX2_isAsked_2 2 rfl rfl)
theorem dX2_isAsked_52 : decode cX2_isAsked 52 = .ok (.iconst 1, 1) := dk_4 (dk_at dksX2_isAsked_2 5 rfl rfl)
theorem dX2_isAsked_53 : decode cX2_isAsked 53 = .ok (.goto 58, 3) := dk_167 0 58 (dk_at dksX2_isAsked_2 6 rfl rfl)
theorem dX2_isAsked_56 : decode cX2_isAsked 56 = .ok (.iconst 0, 1) := dk_3 (dk_at dksX2_isAsked_2 9 rfl rfl)
theorem dX2_isAsked_57 : decode cX2_isAsked 57 = .ok (.goto 54, 3) := dk_167 0 54 (dk_at dksX2_isAsked_2 10 rfl rfl)
theorem dX2_isAsked_60 : decode cX2_isAsked 60 = .ok (.iload_n 0, 1) := dk_26 (dk_at dksX2_isAsked_2 13 rfl rfl)
theorem dX2_isAsked_61 : decode cX2_isAsked 61 = .ok (.bipush 13, 2) := dk_16 13 (dk_at dksX2_isAsked_2 14 rfl rfl)
theorem dX2_isAsked_63 : decode cX2_isAsked 63 = .ok (.if_icmp .ne 17, 3) := dk_160 0 17 (dk_at dksX2_isAsked_2 16 rfl rfl)
theorem dX2_isAsked_66 : decode cX2_isAsked 66 = .ok (.lload_n 1, 1) := dk_31 (dk_at dksX2_isAsked_2 19 rfl rfl)
theorem dX2_isAsked_67 : decode cX2_isAsked 67 = .ok (.lload_n 3, 1) := dk_33 (dk_at dksX2_isAsked_2 20 rfl rfl)
theorem dX2_isAsked_68 : decode cX2_isAsked 68 = .ok (.lcmp, 1) := dk_148 (dk_at dksX2_isAsked_2 21 rfl rfl)
theorem dX2_isAsked_69 : decode cX2_isAsked 69 = .ok (.ifCond .lt 7, 3) := dk_155 0 7 (dk_at dksX2_isAsked_3 0 rfl rfl)
theorem dX2_isAsked_72 : decode cX2_isAsked 72 = .ok (.iconst 1, 1) := dk_4 (dk_at dksX2_isAsked_3 3 rfl rfl)
theorem dX2_isAsked_73 : decode cX2_isAsked 73 = .ok (.goto 38, 3) := dk_167 0 38 (dk_at dksX2_isAsked_3 4 rfl rfl)
theorem dX2_isAsked_76 : decode cX2_isAsked 76 = .ok (.iconst 0, 1) := dk_3 (dk_at dksX2_isAsked_3 7 rfl rfl)
theorem dX2_isAsked_77 : decode cX2_isAsked 77 = .ok (.goto 34, 3) := dk_167 0 34 (dk_at dksX2_isAsked_3 8 rfl rfl)
theorem dX2_isAsked_80 : decode cX2_isAsked 80 = .ok (.iload_n 0, 1) := dk_26 (dk_at dksX2_isAsked_3 11 rfl rfl)
theorem dX2_isAsked_81 : decode cX2_isAsked 81 = .ok (.bipush 14, 2) := dk_16 14 (dk_at dksX2_isAsked_3 12 rfl rfl)
theorem dX2_isAsked_83 : decode cX2_isAsked 83 = .ok (.if_icmp .ne 17, 3) := dk_160 0 17 (dk_at dksX2_isAsked_3 14 rfl rfl)
theorem dX2_isAsked_86 : decode cX2_isAsked 86 = .ok (.lload_n 1, 1) := dk_31 (dk_at dksX2_isAsked_3 17 rfl rfl)
theorem dX2_isAsked_87 : decode cX2_isAsked 87 = .ok (.lload_n 3, 1) := dk_33 (dk_at dksX2_isAsked_3 18 rfl rfl)
theorem dX2_isAsked_88 : decode cX2_isAsked 88 = .ok (.lcmp, 1) := dk_148 (dk_at dksX2_isAsked_3 19 rfl rfl)
theorem dX2_isAsked_89 : decode cX2_isAsked 89 = .ok (.ifCond .ne 7, 3) := dk_154 0 7 (dk_at dksX2_isAsked_3 20 rfl rfl)
theorem dX2_isAsked_92 : decode cX2_isAsked 92 = .ok (.iconst 1, 1) := dk_4 (dk_at dksX2_isAsked_3 23 rfl rfl)
theorem dX2_isAsked_93 : decode cX2_isAsked 93 = .ok (.goto 18, 3) := dk_167 0 18 (dk_at dksX2_isAsked_4 0 rfl rfl)
theorem dX2_isAsked_96 : decode cX2_isAsked 96 = .ok (.iconst 0, 1) := dk_3 (dk_at dksX2_isAsked_4 3 rfl rfl)
theorem dX2_isAsked_97 : decode cX2_isAsked 97 = .ok (.goto 14, 3) := dk_167 0 14 (dk_at dksX2_isAsked_4 4 rfl rfl)
theorem dX2_isAsked_100 : decode cX2_isAsked 100 = .ok (.lload_n 1, 1) := dk_31 (dk_at dksX2_isAsked_4 7 rfl rfl)
theorem dX2_isAsked_101 : decode cX2_isAsked 101 = .ok (.lload_n 3, 1) := dk_33 (dk_at dksX2_isAsked_4 8 rfl rfl)
theorem dX2_isAsked_102 : decode cX2_isAsked 102 = .ok (.lcmp, 1) := dk_148 (dk_at dksX2_isAsked_4 9 rfl rfl)
theorem dX2_isAsked_103 : decode cX2_isAsked 103 = .ok (.ifCond .eq 7, 3) := dk_153 0 7 (dk_at dksX2_isAsked_4 10 rfl rfl)
theorem dX2_isAsked_106 : decode cX2_isAsked 106 = .ok (.iconst 1, 1) := dk_4 (dk_at dksX2_isAsked_4 13 rfl rfl)
theorem dX2_isAsked_107 : decode cX2_isAsked 107 = .ok (.goto 4, 3) := dk_167 0 4 (dk_at dksX2_isAsked_4 14 rfl rfl)
theorem dX2_isAsked_110 : decode cX2_isAsked 110 = .ok (.iconst 0, 1) := dk_3 (dk_at dksX2_isAsked_4 17 rfl rfl)
theorem dX2_isAsked_111 : decode cX2_isAsked 111 = .ok (.ireturn, 1) := dk_172 (dk_at dksX2_isAsked_4 18 rfl rfl)
abbrev cX2_cut : ByteArray := prog_19_method_4_code
def yX2_cut : MethodName := ⟨RX2, "cut", "(III)I"⟩
def dkwX2_cut_0 : List UInt8 := [26, 27, 162, 0, 7, 27, 167, 0, 13, 26, 28, 164, 0, 7, 28, 167, 0, 4, 26, 172]
abbrev dktX2_cut_0 : List UInt8 := dkwX2_cut_0 ++ []
theorem dksX2_cut_0 : cX2_cut.data.toList.drop 0 = dktX2_cut_0 := by decide +kernel
theorem dX2_cut_0 : decode cX2_cut 0 = .ok (.iload_n 0, 1) := dk_26 (dk_at dksX2_cut_0 0 rfl rfl)
theorem dX2_cut_1 : decode cX2_cut 1 = .ok (.iload_n 1, 1) := dk_27 (dk_at dksX2_cut_0 1 rfl rfl)
theorem dX2_cut_2 : decode cX2_cut 2 = .ok (.if_icmp .ge 7, 3) := dk_162 0 7 (dk_at dksX2_cut_0 2 rfl rfl)
theorem dX2_cut_5 : decode cX2_cut 5 = .ok (.iload_n 1, 1) := dk_27 (dk_at dksX2_cut_0 5 rfl rfl)
theorem dX2_cut_6 : decode cX2_cut 6 = .ok (.goto 13, 3) := dk_167 0 13 (dk_at dksX2_cut_0 6 rfl rfl)
theorem dX2_cut_9 : decode cX2_cut 9 = .ok (.iload_n 0, 1) := dk_26 (dk_at dksX2_cut_0 9 rfl rfl)
theorem dX2_cut_10 : decode cX2_cut 10 = .ok (.iload_n 2, 1) := dk_28 (dk_at dksX2_cut_0 10 rfl rfl)
theorem dX2_cut_11 : decode cX2_cut 11 = .ok (.if_icmp .le 7, 3) := dk_164 0 7 (dk_at dksX2_cut_0 11 rfl rfl)
theorem dX2_cut_14 : decode cX2_cut 14 = .ok (.iload_n 2, 1) := dk_28 (dk_at dksX2_cut_0 14 rfl rfl)
theorem dX2_cut_15 : decode cX2_cut 15 = .ok (.goto 4, 3) := dk_167 0 4 (dk_at dksX2_cut_0 15 rfl rfl)
theorem dX2_cut_18 : decode cX2_cut 18 = .ok (.iload_n 0, 1) := dk_26 (dk_at dksX2_cut_0 18 rfl rfl)
theorem dX2_cut_19 : decode cX2_cut 19 = .ok (.ireturn, 1) := dk_172 (dk_at dksX2_cut_0 19 rfl rfl)
abbrev cX2_drawn : ByteArray := prog_19_method_69_code
def yX2_drawn : MethodName := ⟨RX2, "drawn", "(I)I"⟩
def dkwX2_drawn_0 : List UInt8 := [42, 180, 0, 7, 5, 46, 27, 112, 61, 42, 182, 1, 46, 28, 172]
abbrev dktX2_drawn_0 : List UInt8 := dkwX2_drawn_0 ++ []
theorem dksX2_drawn_0 : cX2_drawn.data.toList.drop 0 = dktX2_drawn_0 := by decide +kernel
theorem dX2_drawn_0 : decode cX2_drawn 0 = .ok (.aload_n 0, 1) := dk_42 (dk_at dksX2_drawn_0 0 rfl rfl)
theorem dX2_drawn_1 : decode cX2_drawn 1 = .ok (.getfield 7, 3) := dk_180 0 7 (dk_at dksX2_drawn_0 1 rfl rfl)
theorem dX2_drawn_4 : decode cX2_drawn 4 = .ok (.iconst 2, 1) := dk_5 (dk_at dksX2_drawn_0 4 rfl rfl)
theorem dX2_drawn_5 : decode cX2_drawn 5 = .ok (.iaload, 1) := dk_46 (dk_at dksX2_drawn_0 5 rfl rfl)
theorem dX2_drawn_6 : decode cX2_drawn 6 = .ok (.iload_n 1, 1) := dk_27 (dk_at dksX2_drawn_0 6 rfl rfl)
theorem dX2_drawn_7 : decode cX2_drawn 7 = .ok (.irem, 1) := dk_112 (dk_at dksX2_drawn_0 7 rfl rfl)
theorem dX2_drawn_8 : decode cX2_drawn 8 = .ok (.istore_n 2, 1) := dk_61 (dk_at dksX2_drawn_0 8 rfl rfl)
theorem dX2_drawn_9 : decode cX2_drawn 9 = .ok (.aload_n 0, 1) := dk_42 (dk_at dksX2_drawn_0 9 rfl rfl)
theorem dX2_drawn_10 : decode cX2_drawn 10 = .ok (.invokevirtual 302, 3) := dk_182 1 46 (dk_at dksX2_drawn_0 10 rfl rfl)
theorem dX2_drawn_13 : decode cX2_drawn 13 = .ok (.iload_n 2, 1) := dk_28 (dk_at dksX2_drawn_0 13 rfl rfl)
theorem dX2_drawn_14 : decode cX2_drawn 14 = .ok (.ireturn, 1) := dk_172 (dk_at dksX2_drawn_0 14 rfl rfl)
abbrev cX2_anew : ByteArray := prog_19_method_70_code
def yX2_anew : MethodName := ⟨RX2, "anew", "()V"⟩
def dkwX2_anew_1 : List UInt8 := [136, 79, 177]
abbrev dktX2_anew_1 : List UInt8 := dkwX2_anew_1 ++ []
def dkwX2_anew_0 : List UInt8 := [42, 180, 0, 7, 5, 42, 180, 0, 7, 5, 46, 133, 20, 1, 49, 105, 20, 1, 51, 97, 20, 1, 53, 113]
abbrev dktX2_anew_0 : List UInt8 := dkwX2_anew_0 ++ dktX2_anew_1
theorem dksX2_anew_0 : cX2_anew.data.toList.drop 0 = dktX2_anew_0 := by decide +kernel
theorem dksX2_anew_1 : cX2_anew.data.toList.drop 24 = dktX2_anew_1 := dk_seg dksX2_anew_0 24 rfl rfl
theorem dX2_anew_0 : decode cX2_anew 0 = .ok (.aload_n 0, 1) := dk_42 (dk_at dksX2_anew_0 0 rfl rfl)
theorem dX2_anew_1 : decode cX2_anew 1 = .ok (.getfield 7, 3) := dk_180 0 7 (dk_at dksX2_anew_0 1 rfl rfl)
theorem dX2_anew_4 : decode cX2_anew 4 = .ok (.iconst 2, 1) := dk_5 (dk_at dksX2_anew_0 4 rfl rfl)
theorem dX2_anew_5 : decode cX2_anew 5 = .ok (.aload_n 0, 1) := dk_42 (dk_at dksX2_anew_0 5 rfl rfl)
theorem dX2_anew_6 : decode cX2_anew 6 = .ok (.getfield 7, 3) := dk_180 0 7 (dk_at dksX2_anew_0 6 rfl rfl)
theorem dX2_anew_9 : decode cX2_anew 9 = .ok (.iconst 2, 1) := dk_5 (dk_at dksX2_anew_0 9 rfl rfl)
theorem dX2_anew_10 : decode cX2_anew 10 = .ok (.iaload, 1) := dk_46 (dk_at dksX2_anew_0 10 rfl rfl)
theorem dX2_anew_11 : decode cX2_anew 11 = .ok (.i2l, 1) := dk_133 (dk_at dksX2_anew_0 11 rfl rfl)
theorem dX2_anew_12 : decode cX2_anew 12 = .ok (.ldc2_w 305, 3) := dk_20 1 49 (dk_at dksX2_anew_0 12 rfl rfl)
theorem dX2_anew_15 : decode cX2_anew 15 = .ok (.lmul, 1) := dk_105 (dk_at dksX2_anew_0 15 rfl rfl)
theorem dX2_anew_16 : decode cX2_anew 16 = .ok (.ldc2_w 307, 3) := dk_20 1 51 (dk_at dksX2_anew_0 16 rfl rfl)
theorem dX2_anew_19 : decode cX2_anew 19 = .ok (.ladd, 1) := dk_97 (dk_at dksX2_anew_0 19 rfl rfl)
theorem dX2_anew_20 : decode cX2_anew 20 = .ok (.ldc2_w 309, 3) := dk_20 1 53 (dk_at dksX2_anew_0 20 rfl rfl)
theorem dX2_anew_23 : decode cX2_anew 23 = .ok (.lrem, 1) := dk_113 (dk_at dksX2_anew_0 23 rfl rfl)
theorem dX2_anew_24 : decode cX2_anew 24 = .ok (.l2i, 1) := dk_136 (dk_at dksX2_anew_1 0 rfl rfl)
theorem dX2_anew_25 : decode cX2_anew 25 = .ok (.iastore, 1) := dk_79 (dk_at dksX2_anew_1 1 rfl rfl)
theorem dX2_anew_26 : decode cX2_anew 26 = .ok (.return_, 1) := dk_177 (dk_at dksX2_anew_1 2 rfl rfl)
abbrev cX2_run : ByteArray := prog_19_method_80_code
def yX2_run : MethodName := ⟨RX2, "run", "(I)I"⟩
def dkwX2_run_1 : List UInt8 := [163, 0, 21, 42, 27, 182, 1, 85, 153, 0, 13, 42, 180, 0, 7, 16, 8, 46, 167, 0, 4, 2, 172]
abbrev dktX2_run_1 : List UInt8 := dkwX2_run_1 ++ []
def dkwX2_run_0 : List UInt8 := [27, 4, 16, 60, 184, 0, 71, 153, 0, 36, 42, 180, 0, 7, 16, 16, 46, 27, 96, 17, 39, 15]
abbrev dktX2_run_0 : List UInt8 := dkwX2_run_0 ++ dktX2_run_1
theorem dksX2_run_0 : cX2_run.data.toList.drop 0 = dktX2_run_0 := by decide +kernel
theorem dksX2_run_1 : cX2_run.data.toList.drop 22 = dktX2_run_1 := dk_seg dksX2_run_0 22 rfl rfl
theorem dX2_run_0 : decode cX2_run 0 = .ok (.iload_n 1, 1) := dk_27 (dk_at dksX2_run_0 0 rfl rfl)
theorem dX2_run_1 : decode cX2_run 1 = .ok (.iconst 1, 1) := dk_4 (dk_at dksX2_run_0 1 rfl rfl)
theorem dX2_run_2 : decode cX2_run 2 = .ok (.bipush 60, 2) := dk_16 60 (dk_at dksX2_run_0 2 rfl rfl)
theorem dX2_run_4 : decode cX2_run 4 = .ok (.invokestatic 71, 3) := dk_184 0 71 (dk_at dksX2_run_0 4 rfl rfl)
theorem dX2_run_7 : decode cX2_run 7 = .ok (.ifCond .eq 36, 3) := dk_153 0 36 (dk_at dksX2_run_0 7 rfl rfl)
theorem dX2_run_10 : decode cX2_run 10 = .ok (.aload_n 0, 1) := dk_42 (dk_at dksX2_run_0 10 rfl rfl)
theorem dX2_run_11 : decode cX2_run 11 = .ok (.getfield 7, 3) := dk_180 0 7 (dk_at dksX2_run_0 11 rfl rfl)
theorem dX2_run_14 : decode cX2_run 14 = .ok (.bipush 16, 2) := dk_16 16 (dk_at dksX2_run_0 14 rfl rfl)
theorem dX2_run_16 : decode cX2_run 16 = .ok (.iaload, 1) := dk_46 (dk_at dksX2_run_0 16 rfl rfl)
theorem dX2_run_17 : decode cX2_run 17 = .ok (.iload_n 1, 1) := dk_27 (dk_at dksX2_run_0 17 rfl rfl)
theorem dX2_run_18 : decode cX2_run 18 = .ok (.iadd, 1) := dk_96 (dk_at dksX2_run_0 18 rfl rfl)
theorem dX2_run_19 : decode cX2_run 19 = .ok (.sipush 9999, 3) := dk_17 39 15 (dk_at dksX2_run_0 19 rfl rfl)
theorem dX2_run_22 : decode cX2_run 22 = .ok (.if_icmp .gt 21, 3) := dk_163 0 21 (dk_at dksX2_run_1 0 rfl rfl)
theorem dX2_run_25 : decode cX2_run 25 = .ok (.aload_n 0, 1) := dk_42 (dk_at dksX2_run_1 3 rfl rfl)
theorem dX2_run_26 : decode cX2_run 26 = .ok (.iload_n 1, 1) := dk_27 (dk_at dksX2_run_1 4 rfl rfl)
theorem dX2_run_27 : decode cX2_run 27 = .ok (.invokevirtual 341, 3) := dk_182 1 85 (dk_at dksX2_run_1 5 rfl rfl)
theorem dX2_run_30 : decode cX2_run 30 = .ok (.ifCond .eq 13, 3) := dk_153 0 13 (dk_at dksX2_run_1 8 rfl rfl)
theorem dX2_run_33 : decode cX2_run 33 = .ok (.aload_n 0, 1) := dk_42 (dk_at dksX2_run_1 11 rfl rfl)
theorem dX2_run_34 : decode cX2_run 34 = .ok (.getfield 7, 3) := dk_180 0 7 (dk_at dksX2_run_1 12 rfl rfl)
theorem dX2_run_37 : decode cX2_run 37 = .ok (.bipush 8, 2) := dk_16 8 (dk_at dksX2_run_1 15 rfl rfl)
theorem dX2_run_39 : decode cX2_run 39 = .ok (.iaload, 1) := dk_46 (dk_at dksX2_run_1 17 rfl rfl)
theorem dX2_run_40 : decode cX2_run 40 = .ok (.goto 4, 3) := dk_167 0 4 (dk_at dksX2_run_1 18 rfl rfl)
theorem dX2_run_43 : decode cX2_run 43 = .ok (.iconst (-1), 1) := dk_2 (dk_at dksX2_run_1 21 rfl rfl)
theorem dX2_run_44 : decode cX2_run 44 = .ok (.ireturn, 1) := dk_172 (dk_at dksX2_run_1 22 rfl rfl)
abbrev cX2_areRun : ByteArray := prog_19_method_79_code
def yX2_areRun : MethodName := ⟨RX2, "areRun", "(I)Z"⟩
def dkwX2_areRun_1 : List UInt8 := [3, 172, 132, 2, 1, 167, 255, 229, 4, 172]
abbrev dktX2_areRun_1 : List UInt8 := dkwX2_areRun_1 ++ []
def dkwX2_areRun_0 : List UInt8 := [3, 61, 28, 27, 162, 0, 28, 42, 42, 42, 180, 0, 7, 7, 46, 182, 1, 82, 182, 1, 79, 154, 0, 5]
abbrev dktX2_areRun_0 : List UInt8 := dkwX2_areRun_0 ++ dktX2_areRun_1
theorem dksX2_areRun_0 : cX2_areRun.data.toList.drop 0 = dktX2_areRun_0 := by decide +kernel
theorem dksX2_areRun_1 : cX2_areRun.data.toList.drop 24 = dktX2_areRun_1 := dk_seg dksX2_areRun_0 24 rfl rfl
theorem dX2_areRun_0 : decode cX2_areRun 0 = .ok (.iconst 0, 1) := dk_3 (dk_at dksX2_areRun_0 0 rfl rfl)
theorem dX2_areRun_1 : decode cX2_areRun 1 = .ok (.istore_n 2, 1) := dk_61 (dk_at dksX2_areRun_0 1 rfl rfl)
theorem dX2_areRun_2 : decode cX2_areRun 2 = .ok (.iload_n 2, 1) := dk_28 (dk_at dksX2_areRun_0 2 rfl rfl)
theorem dX2_areRun_3 : decode cX2_areRun 3 = .ok (.iload_n 1, 1) := dk_27 (dk_at dksX2_areRun_0 3 rfl rfl)
theorem dX2_areRun_4 : decode cX2_areRun 4 = .ok (.if_icmp .ge 28, 3) := dk_162 0 28 (dk_at dksX2_areRun_0 4 rfl rfl)
theorem dX2_areRun_7 : decode cX2_areRun 7 = .ok (.aload_n 0, 1) := dk_42 (dk_at dksX2_areRun_0 7 rfl rfl)
theorem dX2_areRun_8 : decode cX2_areRun 8 = .ok (.aload_n 0, 1) := dk_42 (dk_at dksX2_areRun_0 8 rfl rfl)
theorem dX2_areRun_9 : decode cX2_areRun 9 = .ok (.aload_n 0, 1) := dk_42 (dk_at dksX2_areRun_0 9 rfl rfl)
theorem dX2_areRun_10 : decode cX2_areRun 10 = .ok (.getfield 7, 3) := dk_180 0 7 (dk_at dksX2_areRun_0 10 rfl rfl)
theorem dX2_areRun_13 : decode cX2_areRun 13 = .ok (.iconst 4, 1) := dk_7 (dk_at dksX2_areRun_0 13 rfl rfl)
theorem dX2_areRun_14 : decode cX2_areRun 14 = .ok (.iaload, 1) := dk_46 (dk_at dksX2_areRun_0 14 rfl rfl)
theorem dX2_areRun_15 : decode cX2_areRun 15 = .ok (.invokevirtual 338, 3) := dk_182 1 82 (dk_at dksX2_areRun_0 15 rfl rfl)
theorem dX2_areRun_18 : decode cX2_areRun 18 = .ok (.invokevirtual 335, 3) := dk_182 1 79 (dk_at dksX2_areRun_0 18 rfl rfl)
theorem dX2_areRun_21 : decode cX2_areRun 21 = .ok (.ifCond .ne 5, 3) := dk_154 0 5 (dk_at dksX2_areRun_0 21 rfl rfl)
theorem dX2_areRun_24 : decode cX2_areRun 24 = .ok (.iconst 0, 1) := dk_3 (dk_at dksX2_areRun_1 0 rfl rfl)
theorem dX2_areRun_25 : decode cX2_areRun 25 = .ok (.ireturn, 1) := dk_172 (dk_at dksX2_areRun_1 1 rfl rfl)
theorem dX2_areRun_26 : decode cX2_areRun 26 = .ok (.iinc 2 1, 3) := dk_132 2 1 (dk_at dksX2_areRun_1 2 rfl rfl)
theorem dX2_areRun_29 : decode cX2_areRun 29 = .ok (.goto (-27), 3) := dk_167 255 229 (dk_at dksX2_areRun_1 5 rfl rfl)
theorem dX2_areRun_32 : decode cX2_areRun 32 = .ok (.iconst 1, 1) := dk_4 (dk_at dksX2_areRun_1 8 rfl rfl)
theorem dX2_areRun_33 : decode cX2_areRun 33 = .ok (.ireturn, 1) := dk_172 (dk_at dksX2_areRun_1 9 rfl rfl)
abbrev cX2_commandNow : ByteArray := prog_19_method_74_code
def yX2_commandNow : MethodName := ⟨RX2, "commandNow", "(I)I"⟩
def dkwX2_commandNow_0 : List UInt8 := [42, 182, 1, 58, 42, 27, 182, 1, 70, 172]
abbrev dktX2_commandNow_0 : List UInt8 := dkwX2_commandNow_0 ++ []
theorem dksX2_commandNow_0 : cX2_commandNow.data.toList.drop 0 = dktX2_commandNow_0 := by decide +kernel
theorem dX2_commandNow_0 : decode cX2_commandNow 0 = .ok (.aload_n 0, 1) := dk_42 (dk_at dksX2_commandNow_0 0 rfl rfl)
theorem dX2_commandNow_1 : decode cX2_commandNow 1 = .ok (.invokevirtual 314, 3) := dk_182 1 58 (dk_at dksX2_commandNow_0 1 rfl rfl)
theorem dX2_commandNow_4 : decode cX2_commandNow 4 = .ok (.aload_n 0, 1) := dk_42 (dk_at dksX2_commandNow_0 4 rfl rfl)
theorem dX2_commandNow_5 : decode cX2_commandNow 5 = .ok (.iload_n 1, 1) := dk_27 (dk_at dksX2_commandNow_0 5 rfl rfl)
theorem dX2_commandNow_6 : decode cX2_commandNow 6 = .ok (.invokevirtual 326, 3) := dk_182 1 70 (dk_at dksX2_commandNow_0 6 rfl rfl)
theorem dX2_commandNow_9 : decode cX2_commandNow 9 = .ok (.ireturn, 1) := dk_172 (dk_at dksX2_commandNow_0 9 rfl rfl)
abbrev cX2_commandBy : ByteArray := prog_19_method_66_code
def yX2_commandBy : MethodName := ⟨RX2, "commandBy", "(I)I"⟩
def dkwX2_commandBy_1 : List UInt8 := [182, 1, 30, 62, 29, 158, 0, 7, 4, 167, 0, 12, 29, 156, 0, 7, 2, 167, 0, 4, 3, 172]
abbrev dktX2_commandBy_1 : List UInt8 := dkwX2_commandBy_1 ++ []
def dkwX2_commandBy_0 : List UInt8 := [42, 27, 5, 182, 1, 27, 61, 28, 156, 0, 12, 42, 180, 0, 32, 7, 46, 167, 0, 9, 42, 27, 28]
abbrev dktX2_commandBy_0 : List UInt8 := dkwX2_commandBy_0 ++ dktX2_commandBy_1
theorem dksX2_commandBy_0 : cX2_commandBy.data.toList.drop 0 = dktX2_commandBy_0 := by decide +kernel
theorem dksX2_commandBy_1 : cX2_commandBy.data.toList.drop 23 = dktX2_commandBy_1 := dk_seg dksX2_commandBy_0 23 rfl rfl
theorem dX2_commandBy_0 : decode cX2_commandBy 0 = .ok (.aload_n 0, 1) := dk_42 (dk_at dksX2_commandBy_0 0 rfl rfl)
theorem dX2_commandBy_1 : decode cX2_commandBy 1 = .ok (.iload_n 1, 1) := dk_27 (dk_at dksX2_commandBy_0 1 rfl rfl)
theorem dX2_commandBy_2 : decode cX2_commandBy 2 = .ok (.iconst 2, 1) := dk_5 (dk_at dksX2_commandBy_0 2 rfl rfl)
theorem dX2_commandBy_3 : decode cX2_commandBy 3 = .ok (.invokevirtual 283, 3) := dk_182 1 27 (dk_at dksX2_commandBy_0 3 rfl rfl)
theorem dX2_commandBy_6 : decode cX2_commandBy 6 = .ok (.istore_n 2, 1) := dk_61 (dk_at dksX2_commandBy_0 6 rfl rfl)
theorem dX2_commandBy_7 : decode cX2_commandBy 7 = .ok (.iload_n 2, 1) := dk_28 (dk_at dksX2_commandBy_0 7 rfl rfl)
theorem dX2_commandBy_8 : decode cX2_commandBy 8 = .ok (.ifCond .ge 12, 3) := dk_156 0 12 (dk_at dksX2_commandBy_0 8 rfl rfl)
theorem dX2_commandBy_11 : decode cX2_commandBy 11 = .ok (.aload_n 0, 1) := dk_42 (dk_at dksX2_commandBy_0 11 rfl rfl)
theorem dX2_commandBy_12 : decode cX2_commandBy 12 = .ok (.getfield 32, 3) := dk_180 0 32 (dk_at dksX2_commandBy_0 12 rfl rfl)
theorem dX2_commandBy_15 : decode cX2_commandBy 15 = .ok (.iconst 4, 1) := dk_7 (dk_at dksX2_commandBy_0 15 rfl rfl)
theorem dX2_commandBy_16 : decode cX2_commandBy 16 = .ok (.iaload, 1) := dk_46 (dk_at dksX2_commandBy_0 16 rfl rfl)
theorem dX2_commandBy_17 : decode cX2_commandBy 17 = .ok (.goto 9, 3) := dk_167 0 9 (dk_at dksX2_commandBy_0 17 rfl rfl)
theorem dX2_commandBy_20 : decode cX2_commandBy 20 = .ok (.aload_n 0, 1) := dk_42 (dk_at dksX2_commandBy_0 20 rfl rfl)
theorem dX2_commandBy_21 : decode cX2_commandBy 21 = .ok (.iload_n 1, 1) := dk_27 (dk_at dksX2_commandBy_0 21 rfl rfl)
theorem dX2_commandBy_22 : decode cX2_commandBy 22 = .ok (.iload_n 2, 1) := dk_28 (dk_at dksX2_commandBy_0 22 rfl rfl)
theorem dX2_commandBy_23 : decode cX2_commandBy 23 = .ok (.invokevirtual 286, 3) := dk_182 1 30 (dk_at dksX2_commandBy_1 0 rfl rfl)
theorem dX2_commandBy_26 : decode cX2_commandBy 26 = .ok (.istore_n 3, 1) := dk_62 (dk_at dksX2_commandBy_1 3 rfl rfl)
theorem dX2_commandBy_27 : decode cX2_commandBy 27 = .ok (.iload_n 3, 1) := dk_29 (dk_at dksX2_commandBy_1 4 rfl rfl)
theorem dX2_commandBy_28 : decode cX2_commandBy 28 = .ok (.ifCond .le 7, 3) := dk_158 0 7 (dk_at dksX2_commandBy_1 5 rfl rfl)
theorem dX2_commandBy_31 : decode cX2_commandBy 31 = .ok (.iconst 1, 1) := dk_4 (dk_at dksX2_commandBy_1 8 rfl rfl)
theorem dX2_commandBy_32 : decode cX2_commandBy 32 = .ok (.goto 12, 3) := dk_167 0 12 (dk_at dksX2_commandBy_1 9 rfl rfl)
theorem dX2_commandBy_35 : decode cX2_commandBy 35 = .ok (.iload_n 3, 1) := dk_29 (dk_at dksX2_commandBy_1 12 rfl rfl)
theorem dX2_commandBy_36 : decode cX2_commandBy 36 = .ok (.ifCond .ge 7, 3) := dk_156 0 7 (dk_at dksX2_commandBy_1 13 rfl rfl)
theorem dX2_commandBy_39 : decode cX2_commandBy 39 = .ok (.iconst (-1), 1) := dk_2 (dk_at dksX2_commandBy_1 16 rfl rfl)
theorem dX2_commandBy_40 : decode cX2_commandBy 40 = .ok (.goto 4, 3) := dk_167 0 4 (dk_at dksX2_commandBy_1 17 rfl rfl)
theorem dX2_commandBy_43 : decode cX2_commandBy 43 = .ok (.iconst 0, 1) := dk_3 (dk_at dksX2_commandBy_1 20 rfl rfl)
theorem dX2_commandBy_44 : decode cX2_commandBy 44 = .ok (.ireturn, 1) := dk_172 (dk_at dksX2_commandBy_1 21 rfl rfl)
abbrev cX2_hoist : ByteArray := prog_19_method_81_code
def yX2_hoist : MethodName := ⟨RX2, "hoist", "(I)Z"⟩
def dkwX2_hoist_1 : List UInt8 := [182, 1, 73, 42, 180, 0, 7, 16, 12, 27, 79, 4, 172]
abbrev dktX2_hoist_1 : List UInt8 := dkwX2_hoist_1 ++ []
def dkwX2_hoist_0 : List UInt8 := [27, 4, 16, 24, 184, 0, 71, 153, 0, 14, 42, 180, 0, 7, 16, 12, 46, 27, 160, 0, 5, 3, 172, 42]
abbrev dktX2_hoist_0 : List UInt8 := dkwX2_hoist_0 ++ dktX2_hoist_1
theorem dksX2_hoist_0 : cX2_hoist.data.toList.drop 0 = dktX2_hoist_0 := by decide +kernel
theorem dksX2_hoist_1 : cX2_hoist.data.toList.drop 24 = dktX2_hoist_1 := dk_seg dksX2_hoist_0 24 rfl rfl
theorem dX2_hoist_0 : decode cX2_hoist 0 = .ok (.iload_n 1, 1) := dk_27 (dk_at dksX2_hoist_0 0 rfl rfl)
theorem dX2_hoist_1 : decode cX2_hoist 1 = .ok (.iconst 1, 1) := dk_4 (dk_at dksX2_hoist_0 1 rfl rfl)
theorem dX2_hoist_2 : decode cX2_hoist 2 = .ok (.bipush 24, 2) := dk_16 24 (dk_at dksX2_hoist_0 2 rfl rfl)
theorem dX2_hoist_4 : decode cX2_hoist 4 = .ok (.invokestatic 71, 3) := dk_184 0 71 (dk_at dksX2_hoist_0 4 rfl rfl)
theorem dX2_hoist_7 : decode cX2_hoist 7 = .ok (.ifCond .eq 14, 3) := dk_153 0 14 (dk_at dksX2_hoist_0 7 rfl rfl)
theorem dX2_hoist_10 : decode cX2_hoist 10 = .ok (.aload_n 0, 1) := dk_42 (dk_at dksX2_hoist_0 10 rfl rfl)
theorem dX2_hoist_11 : decode cX2_hoist 11 = .ok (.getfield 7, 3) := dk_180 0 7 (dk_at dksX2_hoist_0 11 rfl rfl)
theorem dX2_hoist_14 : decode cX2_hoist 14 = .ok (.bipush 12, 2) := dk_16 12 (dk_at dksX2_hoist_0 14 rfl rfl)
theorem dX2_hoist_16 : decode cX2_hoist 16 = .ok (.iaload, 1) := dk_46 (dk_at dksX2_hoist_0 16 rfl rfl)
theorem dX2_hoist_17 : decode cX2_hoist 17 = .ok (.iload_n 1, 1) := dk_27 (dk_at dksX2_hoist_0 17 rfl rfl)
theorem dX2_hoist_18 : decode cX2_hoist 18 = .ok (.if_icmp .ne 5, 3) := dk_160 0 5 (dk_at dksX2_hoist_0 18 rfl rfl)
theorem dX2_hoist_21 : decode cX2_hoist 21 = .ok (.iconst 0, 1) := dk_3 (dk_at dksX2_hoist_0 21 rfl rfl)
theorem dX2_hoist_22 : decode cX2_hoist 22 = .ok (.ireturn, 1) := dk_172 (dk_at dksX2_hoist_0 22 rfl rfl)
theorem dX2_hoist_23 : decode cX2_hoist 23 = .ok (.aload_n 0, 1) := dk_42 (dk_at dksX2_hoist_0 23 rfl rfl)
theorem dX2_hoist_24 : decode cX2_hoist 24 = .ok (.invokevirtual 329, 3) := dk_182 1 73 (dk_at dksX2_hoist_1 0 rfl rfl)
theorem dX2_hoist_27 : decode cX2_hoist 27 = .ok (.aload_n 0, 1) := dk_42 (dk_at dksX2_hoist_1 3 rfl rfl)
theorem dX2_hoist_28 : decode cX2_hoist 28 = .ok (.getfield 7, 3) := dk_180 0 7 (dk_at dksX2_hoist_1 4 rfl rfl)
theorem dX2_hoist_31 : decode cX2_hoist 31 = .ok (.bipush 12, 2) := dk_16 12 (dk_at dksX2_hoist_1 7 rfl rfl)
theorem dX2_hoist_33 : decode cX2_hoist 33 = .ok (.iload_n 1, 1) := dk_27 (dk_at dksX2_hoist_1 9 rfl rfl)
theorem dX2_hoist_34 : decode cX2_hoist 34 = .ok (.iastore, 1) := dk_79 (dk_at dksX2_hoist_1 10 rfl rfl)
theorem dX2_hoist_35 : decode cX2_hoist 35 = .ok (.iconst 1, 1) := dk_4 (dk_at dksX2_hoist_1 11 rfl rfl)
theorem dX2_hoist_36 : decode cX2_hoist 36 = .ok (.ireturn, 1) := dk_172 (dk_at dksX2_hoist_1 12 rfl rfl)
abbrev cX2_aim : ByteArray := prog_19_method_82_code
def yX2_aim : MethodName := ⟨RX2, "aim", "(I)Z"⟩
def dkwX2_aim_1 : List UInt8 := [42, 182, 1, 73, 42, 180, 0, 7, 16, 15, 27, 79, 4, 172]
abbrev dktX2_aim_1 : List UInt8 := dkwX2_aim_1 ++ []
def dkwX2_aim_0 : List UInt8 := [27, 3, 17, 2, 88, 184, 0, 71, 153, 0, 14, 42, 180, 0, 7, 16, 15, 46, 27, 160, 0, 5, 3, 172]
abbrev dktX2_aim_0 : List UInt8 := dkwX2_aim_0 ++ dktX2_aim_1
theorem dksX2_aim_0 : cX2_aim.data.toList.drop 0 = dktX2_aim_0 := by decide +kernel
theorem dksX2_aim_1 : cX2_aim.data.toList.drop 24 = dktX2_aim_1 := dk_seg dksX2_aim_0 24 rfl rfl
theorem dX2_aim_0 : decode cX2_aim 0 = .ok (.iload_n 1, 1) := dk_27 (dk_at dksX2_aim_0 0 rfl rfl)
theorem dX2_aim_1 : decode cX2_aim 1 = .ok (.iconst 0, 1) := dk_3 (dk_at dksX2_aim_0 1 rfl rfl)
theorem dX2_aim_2 : decode cX2_aim 2 = .ok (.sipush 600, 3) := dk_17 2 88 (dk_at dksX2_aim_0 2 rfl rfl)
theorem dX2_aim_5 : decode cX2_aim 5 = .ok (.invokestatic 71, 3) := dk_184 0 71 (dk_at dksX2_aim_0 5 rfl rfl)
theorem dX2_aim_8 : decode cX2_aim 8 = .ok (.ifCond .eq 14, 3) := dk_153 0 14 (dk_at dksX2_aim_0 8 rfl rfl)
theorem dX2_aim_11 : decode cX2_aim 11 = .ok (.aload_n 0, 1) := dk_42 (dk_at dksX2_aim_0 11 rfl rfl)
theorem dX2_aim_12 : decode cX2_aim 12 = .ok (.getfield 7, 3) := dk_180 0 7 (dk_at dksX2_aim_0 12 rfl rfl)
theorem dX2_aim_15 : decode cX2_aim 15 = .ok (.bipush 15, 2) := dk_16 15 (dk_at dksX2_aim_0 15 rfl rfl)
theorem dX2_aim_17 : decode cX2_aim 17 = .ok (.iaload, 1) := dk_46 (dk_at dksX2_aim_0 17 rfl rfl)
theorem dX2_aim_18 : decode cX2_aim 18 = .ok (.iload_n 1, 1) := dk_27 (dk_at dksX2_aim_0 18 rfl rfl)
theorem dX2_aim_19 : decode cX2_aim 19 = .ok (.if_icmp .ne 5, 3) := dk_160 0 5 (dk_at dksX2_aim_0 19 rfl rfl)
theorem dX2_aim_22 : decode cX2_aim 22 = .ok (.iconst 0, 1) := dk_3 (dk_at dksX2_aim_0 22 rfl rfl)
theorem dX2_aim_23 : decode cX2_aim 23 = .ok (.ireturn, 1) := dk_172 (dk_at dksX2_aim_0 23 rfl rfl)
theorem dX2_aim_24 : decode cX2_aim 24 = .ok (.aload_n 0, 1) := dk_42 (dk_at dksX2_aim_1 0 rfl rfl)
theorem dX2_aim_25 : decode cX2_aim 25 = .ok (.invokevirtual 329, 3) := dk_182 1 73 (dk_at dksX2_aim_1 1 rfl rfl)
theorem dX2_aim_28 : decode cX2_aim 28 = .ok (.aload_n 0, 1) := dk_42 (dk_at dksX2_aim_1 4 rfl rfl)
theorem dX2_aim_29 : decode cX2_aim 29 = .ok (.getfield 7, 3) := dk_180 0 7 (dk_at dksX2_aim_1 5 rfl rfl)
theorem dX2_aim_32 : decode cX2_aim 32 = .ok (.bipush 15, 2) := dk_16 15 (dk_at dksX2_aim_1 8 rfl rfl)
theorem dX2_aim_34 : decode cX2_aim 34 = .ok (.iload_n 1, 1) := dk_27 (dk_at dksX2_aim_1 10 rfl rfl)
theorem dX2_aim_35 : decode cX2_aim 35 = .ok (.iastore, 1) := dk_79 (dk_at dksX2_aim_1 11 rfl rfl)
theorem dX2_aim_36 : decode cX2_aim 36 = .ok (.iconst 1, 1) := dk_4 (dk_at dksX2_aim_1 12 rfl rfl)
theorem dX2_aim_37 : decode cX2_aim 37 = .ok (.ireturn, 1) := dk_172 (dk_at dksX2_aim_1 13 rfl rfl)
abbrev cX2_hook : ByteArray := prog_19_method_83_code
def yX2_hook : MethodName := ⟨RX2, "hook", "(I)Z"⟩
def dkwX2_hook_3 : List UInt8 := [182, 1, 39, 104, 79, 4, 172]
abbrev dktX2_hook_3 : List UInt8 := dkwX2_hook_3 ++ []
def dkwX2_hook_2 : List UInt8 := [180, 0, 7, 16, 13, 42, 27, 3, 182, 1, 39, 79, 42, 180, 0, 7, 16, 15, 16, 10, 42, 27, 4]
abbrev dktX2_hook_2 : List UInt8 := dkwX2_hook_2 ++ dktX2_hook_3
def dkwX2_hook_1 : List UInt8 := [182, 1, 39, 4, 160, 0, 5, 3, 172, 42, 182, 1, 73, 42, 180, 0, 7, 16, 17, 27, 79, 42]
abbrev dktX2_hook_1 : List UInt8 := dkwX2_hook_1 ++ dktX2_hook_2
def dkwX2_hook_0 : List UInt8 := [42, 27, 182, 1, 88, 153, 0, 24, 42, 180, 0, 7, 16, 17, 46, 2, 160, 0, 13, 42, 27, 8]
abbrev dktX2_hook_0 : List UInt8 := dkwX2_hook_0 ++ dktX2_hook_1
theorem dksX2_hook_0 : cX2_hook.data.toList.drop 0 = dktX2_hook_0 := by decide +kernel
theorem dksX2_hook_1 : cX2_hook.data.toList.drop 22 = dktX2_hook_1 := dk_seg dksX2_hook_0 22 rfl rfl
theorem dksX2_hook_2 : cX2_hook.data.toList.drop 44 = dktX2_hook_2 := dk_seg dksX2_hook_1 22 rfl rfl
theorem dksX2_hook_3 : cX2_hook.data.toList.drop 67 = dktX2_hook_3 := dk_seg dksX2_hook_2 23 rfl rfl
theorem dX2_hook_0 : decode cX2_hook 0 = .ok (.aload_n 0, 1) := dk_42 (dk_at dksX2_hook_0 0 rfl rfl)
theorem dX2_hook_1 : decode cX2_hook 1 = .ok (.iload_n 1, 1) := dk_27 (dk_at dksX2_hook_0 1 rfl rfl)
theorem dX2_hook_2 : decode cX2_hook 2 = .ok (.invokevirtual 344, 3) := dk_182 1 88 (dk_at dksX2_hook_0 2 rfl rfl)
theorem dX2_hook_5 : decode cX2_hook 5 = .ok (.ifCond .eq 24, 3) := dk_153 0 24 (dk_at dksX2_hook_0 5 rfl rfl)
theorem dX2_hook_8 : decode cX2_hook 8 = .ok (.aload_n 0, 1) := dk_42 (dk_at dksX2_hook_0 8 rfl rfl)
theorem dX2_hook_9 : decode cX2_hook 9 = .ok (.getfield 7, 3) := dk_180 0 7 (dk_at dksX2_hook_0 9 rfl rfl)
theorem dX2_hook_12 : decode cX2_hook 12 = .ok (.bipush 17, 2) := dk_16 17 (dk_at dksX2_hook_0 12 rfl rfl)
theorem dX2_hook_14 : decode cX2_hook 14 = .ok (.iaload, 1) := dk_46 (dk_at dksX2_hook_0 14 rfl rfl)
theorem dX2_hook_15 : decode cX2_hook 15 = .ok (.iconst (-1), 1) := dk_2 (dk_at dksX2_hook_0 15 rfl rfl)
theorem dX2_hook_16 : decode cX2_hook 16 = .ok (.if_icmp .ne 13, 3) := dk_160 0 13 (dk_at dksX2_hook_0 16 rfl rfl)
theorem dX2_hook_19 : decode cX2_hook 19 = .ok (.aload_n 0, 1) := dk_42 (dk_at dksX2_hook_0 19 rfl rfl)
theorem dX2_hook_20 : decode cX2_hook 20 = .ok (.iload_n 1, 1) := dk_27 (dk_at dksX2_hook_0 20 rfl rfl)
theorem dX2_hook_21 : decode cX2_hook 21 = .ok (.iconst 5, 1) := dk_8 (dk_at dksX2_hook_0 21 rfl rfl)
theorem dX2_hook_22 : decode cX2_hook 22 = .ok (.invokevirtual 295, 3) := dk_182 1 39 (dk_at dksX2_hook_1 0 rfl rfl)
theorem dX2_hook_25 : decode cX2_hook 25 = .ok (.iconst 1, 1) := dk_4 (dk_at dksX2_hook_1 3 rfl rfl)
theorem dX2_hook_26 : decode cX2_hook 26 = .ok (.if_icmp .ne 5, 3) := dk_160 0 5 (dk_at dksX2_hook_1 4 rfl rfl)
theorem dX2_hook_29 : decode cX2_hook 29 = .ok (.iconst 0, 1) := dk_3 (dk_at dksX2_hook_1 7 rfl rfl)
theorem dX2_hook_30 : decode cX2_hook 30 = .ok (.ireturn, 1) := dk_172 (dk_at dksX2_hook_1 8 rfl rfl)
theorem dX2_hook_31 : decode cX2_hook 31 = .ok (.aload_n 0, 1) := dk_42 (dk_at dksX2_hook_1 9 rfl rfl)
theorem dX2_hook_32 : decode cX2_hook 32 = .ok (.invokevirtual 329, 3) := dk_182 1 73 (dk_at dksX2_hook_1 10 rfl rfl)
theorem dX2_hook_35 : decode cX2_hook 35 = .ok (.aload_n 0, 1) := dk_42 (dk_at dksX2_hook_1 13 rfl rfl)
theorem dX2_hook_36 : decode cX2_hook 36 = .ok (.getfield 7, 3) := dk_180 0 7 (dk_at dksX2_hook_1 14 rfl rfl)
theorem dX2_hook_39 : decode cX2_hook 39 = .ok (.bipush 17, 2) := dk_16 17 (dk_at dksX2_hook_1 17 rfl rfl)
theorem dX2_hook_41 : decode cX2_hook 41 = .ok (.iload_n 1, 1) := dk_27 (dk_at dksX2_hook_1 19 rfl rfl)
theorem dX2_hook_42 : decode cX2_hook 42 = .ok (.iastore, 1) := dk_79 (dk_at dksX2_hook_1 20 rfl rfl)
theorem dX2_hook_43 : decode cX2_hook 43 = .ok (.aload_n 0, 1) := dk_42 (dk_at dksX2_hook_1 21 rfl rfl)
theorem dX2_hook_44 : decode cX2_hook 44 = .ok (.getfield 7, 3) := dk_180 0 7 (dk_at dksX2_hook_2 0 rfl rfl)
theorem dX2_hook_47 : decode cX2_hook 47 = .ok (.bipush 13, 2) := dk_16 13 (dk_at dksX2_hook_2 3 rfl rfl)
theorem dX2_hook_49 : decode cX2_hook 49 = .ok (.aload_n 0, 1) := dk_42 (dk_at dksX2_hook_2 5 rfl rfl)
theorem dX2_hook_50 : decode cX2_hook 50 = .ok (.iload_n 1, 1) := dk_27 (dk_at dksX2_hook_2 6 rfl rfl)
theorem dX2_hook_51 : decode cX2_hook 51 = .ok (.iconst 0, 1) := dk_3 (dk_at dksX2_hook_2 7 rfl rfl)
theorem dX2_hook_52 : decode cX2_hook 52 = .ok (.invokevirtual 295, 3) := dk_182 1 39 (dk_at dksX2_hook_2 8 rfl rfl)
theorem dX2_hook_55 : decode cX2_hook 55 = .ok (.iastore, 1) := dk_79 (dk_at dksX2_hook_2 11 rfl rfl)
theorem dX2_hook_56 : decode cX2_hook 56 = .ok (.aload_n 0, 1) := dk_42 (dk_at dksX2_hook_2 12 rfl rfl)
theorem dX2_hook_57 : decode cX2_hook 57 = .ok (.getfield 7, 3) := dk_180 0 7 (dk_at dksX2_hook_2 13 rfl rfl)
theorem dX2_hook_60 : decode cX2_hook 60 = .ok (.bipush 15, 2) := dk_16 15 (dk_at dksX2_hook_2 16 rfl rfl)
theorem dX2_hook_62 : decode cX2_hook 62 = .ok (.bipush 10, 2) := dk_16 10 (dk_at dksX2_hook_2 18 rfl rfl)
theorem dX2_hook_64 : decode cX2_hook 64 = .ok (.aload_n 0, 1) := dk_42 (dk_at dksX2_hook_2 20 rfl rfl)
theorem dX2_hook_65 : decode cX2_hook 65 = .ok (.iload_n 1, 1) := dk_27 (dk_at dksX2_hook_2 21 rfl rfl)
theorem dX2_hook_66 : decode cX2_hook 66 = .ok (.iconst 1, 1) := dk_4 (dk_at dksX2_hook_2 22 rfl rfl)
theorem dX2_hook_67 : decode cX2_hook 67 = .ok (.invokevirtual 295, 3) := dk_182 1 39 (dk_at dksX2_hook_3 0 rfl rfl)
theorem dX2_hook_70 : decode cX2_hook 70 = .ok (.imul, 1) := dk_104 (dk_at dksX2_hook_3 3 rfl rfl)
theorem dX2_hook_71 : decode cX2_hook 71 = .ok (.iastore, 1) := dk_79 (dk_at dksX2_hook_3 4 rfl rfl)
theorem dX2_hook_72 : decode cX2_hook 72 = .ok (.iconst 1, 1) := dk_4 (dk_at dksX2_hook_3 5 rfl rfl)
theorem dX2_hook_73 : decode cX2_hook 73 = .ok (.ireturn, 1) := dk_172 (dk_at dksX2_hook_3 6 rfl rfl)
abbrev cX2_isOrder : ByteArray := prog_19_method_8_code
def yX2_isOrder : MethodName := ⟨RX2, "isOrder", "(I)Z"⟩
def dkwX2_isOrder_0 : List UInt8 := [27, 3, 42, 180, 0, 7, 3, 46, 4, 100, 184, 0, 71, 172]
abbrev dktX2_isOrder_0 : List UInt8 := dkwX2_isOrder_0 ++ []
theorem dksX2_isOrder_0 : cX2_isOrder.data.toList.drop 0 = dktX2_isOrder_0 := by decide +kernel
theorem dX2_isOrder_0 : decode cX2_isOrder 0 = .ok (.iload_n 1, 1) := dk_27 (dk_at dksX2_isOrder_0 0 rfl rfl)
theorem dX2_isOrder_1 : decode cX2_isOrder 1 = .ok (.iconst 0, 1) := dk_3 (dk_at dksX2_isOrder_0 1 rfl rfl)
theorem dX2_isOrder_2 : decode cX2_isOrder 2 = .ok (.aload_n 0, 1) := dk_42 (dk_at dksX2_isOrder_0 2 rfl rfl)
theorem dX2_isOrder_3 : decode cX2_isOrder 3 = .ok (.getfield 7, 3) := dk_180 0 7 (dk_at dksX2_isOrder_0 3 rfl rfl)
theorem dX2_isOrder_6 : decode cX2_isOrder 6 = .ok (.iconst 0, 1) := dk_3 (dk_at dksX2_isOrder_0 6 rfl rfl)
theorem dX2_isOrder_7 : decode cX2_isOrder 7 = .ok (.iaload, 1) := dk_46 (dk_at dksX2_isOrder_0 7 rfl rfl)
theorem dX2_isOrder_8 : decode cX2_isOrder 8 = .ok (.iconst 1, 1) := dk_4 (dk_at dksX2_isOrder_0 8 rfl rfl)
theorem dX2_isOrder_9 : decode cX2_isOrder 9 = .ok (.isub, 1) := dk_100 (dk_at dksX2_isOrder_0 9 rfl rfl)
theorem dX2_isOrder_10 : decode cX2_isOrder 10 = .ok (.invokestatic 71, 3) := dk_184 0 71 (dk_at dksX2_isOrder_0 10 rfl rfl)
theorem dX2_isOrder_13 : decode cX2_isOrder 13 = .ok (.ireturn, 1) := dk_172 (dk_at dksX2_isOrder_0 13 rfl rfl)
abbrev cX2_land : ByteArray := prog_19_method_84_code
def yX2_land : MethodName := ⟨RX2, "land", "()I"⟩
def dkwX2_land_5 : List UInt8 := [79, 27, 172]
abbrev dktX2_land_5 : List UInt8 := dkwX2_land_5 ++ []
def dkwX2_land_4 : List UInt8 := [16, 6, 27, 104, 96, 8, 96, 4, 79, 42, 180, 0, 7, 16, 17, 2, 79, 42, 180, 0, 7, 16, 13, 3]
abbrev dktX2_land_4 : List UInt8 := dkwX2_land_4 ++ dktX2_land_5
def dkwX2_land_3 : List UInt8 := [180, 0, 7, 16, 16, 46, 79, 42, 180, 0, 7, 16, 7, 92, 46, 4, 96, 79, 42, 180, 0, 7, 16, 20]
abbrev dktX2_land_3 : List UInt8 := dkwX2_land_3 ++ dktX2_land_4
def dkwX2_land_2 : List UInt8 := [79, 42, 180, 0, 7, 17, 1, 218, 5, 42, 180, 0, 7, 16, 7, 46, 16, 64, 112, 104, 96, 4, 96, 42]
abbrev dktX2_land_2 : List UInt8 := dkwX2_land_2 ++ dktX2_land_3
def dkwX2_land_1 : List UInt8 := [182, 1, 73, 42, 180, 0, 7, 17, 1, 218, 5, 42, 180, 0, 7, 16, 7, 46, 16, 64, 112, 104, 96, 27]
abbrev dktX2_land_1 : List UInt8 := dkwX2_land_1 ++ dktX2_land_2
def dkwX2_land_0 : List UInt8 := [42, 180, 0, 7, 16, 17, 46, 60, 27, 2, 159, 0, 10, 42, 182, 1, 91, 154, 0, 5, 2, 172, 42]
abbrev dktX2_land_0 : List UInt8 := dkwX2_land_0 ++ dktX2_land_1
theorem dksX2_land_0 : cX2_land.data.toList.drop 0 = dktX2_land_0 := by decide +kernel
theorem dksX2_land_1 : cX2_land.data.toList.drop 23 = dktX2_land_1 := dk_seg dksX2_land_0 23 rfl rfl
theorem dksX2_land_2 : cX2_land.data.toList.drop 47 = dktX2_land_2 := dk_seg dksX2_land_1 24 rfl rfl
theorem dksX2_land_3 : cX2_land.data.toList.drop 71 = dktX2_land_3 := dk_seg dksX2_land_2 24 rfl rfl
theorem dksX2_land_4 : cX2_land.data.toList.drop 95 = dktX2_land_4 := dk_seg dksX2_land_3 24 rfl rfl
theorem dksX2_land_5 : cX2_land.data.toList.drop 119 = dktX2_land_5 := dk_seg dksX2_land_4 24 rfl rfl
theorem dX2_land_0 : decode cX2_land 0 = .ok (.aload_n 0, 1) := dk_42 (dk_at dksX2_land_0 0 rfl rfl)
theorem dX2_land_1 : decode cX2_land 1 = .ok (.getfield 7, 3) := dk_180 0 7 (dk_at dksX2_land_0 1 rfl rfl)
theorem dX2_land_4 : decode cX2_land 4 = .ok (.bipush 17, 2) := dk_16 17 (dk_at dksX2_land_0 4 rfl rfl)
theorem dX2_land_6 : decode cX2_land 6 = .ok (.iaload, 1) := dk_46 (dk_at dksX2_land_0 6 rfl rfl)
theorem dX2_land_7 : decode cX2_land 7 = .ok (.istore_n 1, 1) := dk_60 (dk_at dksX2_land_0 7 rfl rfl)
theorem dX2_land_8 : decode cX2_land 8 = .ok (.iload_n 1, 1) := dk_27 (dk_at dksX2_land_0 8 rfl rfl)
theorem dX2_land_9 : decode cX2_land 9 = .ok (.iconst (-1), 1) := dk_2 (dk_at dksX2_land_0 9 rfl rfl)
theorem dX2_land_10 : decode cX2_land 10 = .ok (.if_icmp .eq 10, 3) := dk_159 0 10 (dk_at dksX2_land_0 10 rfl rfl)
theorem dX2_land_13 : decode cX2_land 13 = .ok (.aload_n 0, 1) := dk_42 (dk_at dksX2_land_0 13 rfl rfl)
theorem dX2_land_14 : decode cX2_land 14 = .ok (.invokevirtual 347, 3) := dk_182 1 91 (dk_at dksX2_land_0 14 rfl rfl)
theorem dX2_land_17 : decode cX2_land 17 = .ok (.ifCond .ne 5, 3) := dk_154 0 5 (dk_at dksX2_land_0 17 rfl rfl)
theorem dX2_land_20 : decode cX2_land 20 = .ok (.iconst (-1), 1) := dk_2 (dk_at dksX2_land_0 20 rfl rfl)
theorem dX2_land_21 : decode cX2_land 21 = .ok (.ireturn, 1) := dk_172 (dk_at dksX2_land_0 21 rfl rfl)
theorem dX2_land_22 : decode cX2_land 22 = .ok (.aload_n 0, 1) := dk_42 (dk_at dksX2_land_0 22 rfl rfl)
theorem dX2_land_23 : decode cX2_land 23 = .ok (.invokevirtual 329, 3) := dk_182 1 73 (dk_at dksX2_land_1 0 rfl rfl)
theorem dX2_land_26 : decode cX2_land 26 = .ok (.aload_n 0, 1) := dk_42 (dk_at dksX2_land_1 3 rfl rfl)
theorem dX2_land_27 : decode cX2_land 27 = .ok (.getfield 7, 3) := dk_180 0 7 (dk_at dksX2_land_1 4 rfl rfl)
theorem dX2_land_30 : decode cX2_land 30 = .ok (.sipush 474, 3) := dk_17 1 218 (dk_at dksX2_land_1 7 rfl rfl)
theorem dX2_land_33 : decode cX2_land 33 = .ok (.iconst 2, 1) := dk_5 (dk_at dksX2_land_1 10 rfl rfl)
theorem dX2_land_34 : decode cX2_land 34 = .ok (.aload_n 0, 1) := dk_42 (dk_at dksX2_land_1 11 rfl rfl)
theorem dX2_land_35 : decode cX2_land 35 = .ok (.getfield 7, 3) := dk_180 0 7 (dk_at dksX2_land_1 12 rfl rfl)
theorem dX2_land_38 : decode cX2_land 38 = .ok (.bipush 7, 2) := dk_16 7 (dk_at dksX2_land_1 15 rfl rfl)
theorem dX2_land_40 : decode cX2_land 40 = .ok (.iaload, 1) := dk_46 (dk_at dksX2_land_1 17 rfl rfl)
theorem dX2_land_41 : decode cX2_land 41 = .ok (.bipush 64, 2) := dk_16 64 (dk_at dksX2_land_1 18 rfl rfl)
theorem dX2_land_43 : decode cX2_land 43 = .ok (.irem, 1) := dk_112 (dk_at dksX2_land_1 20 rfl rfl)
theorem dX2_land_44 : decode cX2_land 44 = .ok (.imul, 1) := dk_104 (dk_at dksX2_land_1 21 rfl rfl)
theorem dX2_land_45 : decode cX2_land 45 = .ok (.iadd, 1) := dk_96 (dk_at dksX2_land_1 22 rfl rfl)
theorem dX2_land_46 : decode cX2_land 46 = .ok (.iload_n 1, 1) := dk_27 (dk_at dksX2_land_1 23 rfl rfl)
theorem dX2_land_47 : decode cX2_land 47 = .ok (.iastore, 1) := dk_79 (dk_at dksX2_land_2 0 rfl rfl)
theorem dX2_land_48 : decode cX2_land 48 = .ok (.aload_n 0, 1) := dk_42 (dk_at dksX2_land_2 1 rfl rfl)
theorem dX2_land_49 : decode cX2_land 49 = .ok (.getfield 7, 3) := dk_180 0 7 (dk_at dksX2_land_2 2 rfl rfl)
theorem dX2_land_52 : decode cX2_land 52 = .ok (.sipush 474, 3) := dk_17 1 218 (dk_at dksX2_land_2 5 rfl rfl)
theorem dX2_land_55 : decode cX2_land 55 = .ok (.iconst 2, 1) := dk_5 (dk_at dksX2_land_2 8 rfl rfl)
theorem dX2_land_56 : decode cX2_land 56 = .ok (.aload_n 0, 1) := dk_42 (dk_at dksX2_land_2 9 rfl rfl)
theorem dX2_land_57 : decode cX2_land 57 = .ok (.getfield 7, 3) := dk_180 0 7 (dk_at dksX2_land_2 10 rfl rfl)
theorem dX2_land_60 : decode cX2_land 60 = .ok (.bipush 7, 2) := dk_16 7 (dk_at dksX2_land_2 13 rfl rfl)
theorem dX2_land_62 : decode cX2_land 62 = .ok (.iaload, 1) := dk_46 (dk_at dksX2_land_2 15 rfl rfl)
theorem dX2_land_63 : decode cX2_land 63 = .ok (.bipush 64, 2) := dk_16 64 (dk_at dksX2_land_2 16 rfl rfl)
theorem dX2_land_65 : decode cX2_land 65 = .ok (.irem, 1) := dk_112 (dk_at dksX2_land_2 18 rfl rfl)
theorem dX2_land_66 : decode cX2_land 66 = .ok (.imul, 1) := dk_104 (dk_at dksX2_land_2 19 rfl rfl)
theorem dX2_land_67 : decode cX2_land 67 = .ok (.iadd, 1) := dk_96 (dk_at dksX2_land_2 20 rfl rfl)
theorem dX2_land_68 : decode cX2_land 68 = .ok (.iconst 1, 1) := dk_4 (dk_at dksX2_land_2 21 rfl rfl)
theorem dX2_land_69 : decode cX2_land 69 = .ok (.iadd, 1) := dk_96 (dk_at dksX2_land_2 22 rfl rfl)
theorem dX2_land_70 : decode cX2_land 70 = .ok (.aload_n 0, 1) := dk_42 (dk_at dksX2_land_2 23 rfl rfl)
theorem dX2_land_71 : decode cX2_land 71 = .ok (.getfield 7, 3) := dk_180 0 7 (dk_at dksX2_land_3 0 rfl rfl)
theorem dX2_land_74 : decode cX2_land 74 = .ok (.bipush 16, 2) := dk_16 16 (dk_at dksX2_land_3 3 rfl rfl)
theorem dX2_land_76 : decode cX2_land 76 = .ok (.iaload, 1) := dk_46 (dk_at dksX2_land_3 5 rfl rfl)
theorem dX2_land_77 : decode cX2_land 77 = .ok (.iastore, 1) := dk_79 (dk_at dksX2_land_3 6 rfl rfl)
theorem dX2_land_78 : decode cX2_land 78 = .ok (.aload_n 0, 1) := dk_42 (dk_at dksX2_land_3 7 rfl rfl)
theorem dX2_land_79 : decode cX2_land 79 = .ok (.getfield 7, 3) := dk_180 0 7 (dk_at dksX2_land_3 8 rfl rfl)
theorem dX2_land_82 : decode cX2_land 82 = .ok (.bipush 7, 2) := dk_16 7 (dk_at dksX2_land_3 11 rfl rfl)
theorem dX2_land_84 : decode cX2_land 84 = .ok (.dup2, 1) := dk_92 (dk_at dksX2_land_3 13 rfl rfl)
theorem dX2_land_85 : decode cX2_land 85 = .ok (.iaload, 1) := dk_46 (dk_at dksX2_land_3 14 rfl rfl)
theorem dX2_land_86 : decode cX2_land 86 = .ok (.iconst 1, 1) := dk_4 (dk_at dksX2_land_3 15 rfl rfl)
theorem dX2_land_87 : decode cX2_land 87 = .ok (.iadd, 1) := dk_96 (dk_at dksX2_land_3 16 rfl rfl)
theorem dX2_land_88 : decode cX2_land 88 = .ok (.iastore, 1) := dk_79 (dk_at dksX2_land_3 17 rfl rfl)
theorem dX2_land_89 : decode cX2_land 89 = .ok (.aload_n 0, 1) := dk_42 (dk_at dksX2_land_3 18 rfl rfl)
theorem dX2_land_90 : decode cX2_land 90 = .ok (.getfield 7, 3) := dk_180 0 7 (dk_at dksX2_land_3 19 rfl rfl)
theorem dX2_land_93 : decode cX2_land 93 = .ok (.bipush 20, 2) := dk_16 20 (dk_at dksX2_land_3 22 rfl rfl)
theorem dX2_land_95 : decode cX2_land 95 = .ok (.bipush 6, 2) := dk_16 6 (dk_at dksX2_land_4 0 rfl rfl)
theorem dX2_land_97 : decode cX2_land 97 = .ok (.iload_n 1, 1) := dk_27 (dk_at dksX2_land_4 2 rfl rfl)
theorem dX2_land_98 : decode cX2_land 98 = .ok (.imul, 1) := dk_104 (dk_at dksX2_land_4 3 rfl rfl)
theorem dX2_land_99 : decode cX2_land 99 = .ok (.iadd, 1) := dk_96 (dk_at dksX2_land_4 4 rfl rfl)
theorem dX2_land_100 : decode cX2_land 100 = .ok (.iconst 5, 1) := dk_8 (dk_at dksX2_land_4 5 rfl rfl)
theorem dX2_land_101 : decode cX2_land 101 = .ok (.iadd, 1) := dk_96 (dk_at dksX2_land_4 6 rfl rfl)
theorem dX2_land_102 : decode cX2_land 102 = .ok (.iconst 1, 1) := dk_4 (dk_at dksX2_land_4 7 rfl rfl)
theorem dX2_land_103 : decode cX2_land 103 = .ok (.iastore, 1) := dk_79 (dk_at dksX2_land_4 8 rfl rfl)
theorem dX2_land_104 : decode cX2_land 104 = .ok (.aload_n 0, 1) := dk_42 (dk_at dksX2_land_4 9 rfl rfl)
theorem dX2_land_105 : decode cX2_land 105 = .ok (.getfield 7, 3) := dk_180 0 7 (dk_at dksX2_land_4 10 rfl rfl)
theorem dX2_land_108 : decode cX2_land 108 = .ok (.bipush 17, 2) := dk_16 17 (dk_at dksX2_land_4 13 rfl rfl)
theorem dX2_land_110 : decode cX2_land 110 = .ok (.iconst (-1), 1) := dk_2 (dk_at dksX2_land_4 15 rfl rfl)
theorem dX2_land_111 : decode cX2_land 111 = .ok (.iastore, 1) := dk_79 (dk_at dksX2_land_4 16 rfl rfl)
theorem dX2_land_112 : decode cX2_land 112 = .ok (.aload_n 0, 1) := dk_42 (dk_at dksX2_land_4 17 rfl rfl)
theorem dX2_land_113 : decode cX2_land 113 = .ok (.getfield 7, 3) := dk_180 0 7 (dk_at dksX2_land_4 18 rfl rfl)
theorem dX2_land_116 : decode cX2_land 116 = .ok (.bipush 13, 2) := dk_16 13 (dk_at dksX2_land_4 21 rfl rfl)
theorem dX2_land_118 : decode cX2_land 118 = .ok (.iconst 0, 1) := dk_3 (dk_at dksX2_land_4 23 rfl rfl)
theorem dX2_land_119 : decode cX2_land 119 = .ok (.iastore, 1) := dk_79 (dk_at dksX2_land_5 0 rfl rfl)
theorem dX2_land_120 : decode cX2_land 120 = .ok (.iload_n 1, 1) := dk_27 (dk_at dksX2_land_5 1 rfl rfl)
theorem dX2_land_121 : decode cX2_land 121 = .ok (.ireturn, 1) := dk_172 (dk_at dksX2_land_5 2 rfl rfl)
abbrev cX2_hangsStill : ByteArray := prog_19_method_73_code
def yX2_hangsStill : MethodName := ⟨RX2, "hangsStill", "()Z"⟩
def dkwX2_hangsStill_3 : List UInt8 := [172]
abbrev dktX2_hangsStill_3 : List UInt8 := dkwX2_hangsStill_3 ++ []
def dkwX2_hangsStill_2 : List UInt8 := [4, 46, 163, 0, 21, 42, 180, 0, 7, 16, 11, 46, 184, 1, 67, 4, 163, 0, 7, 4, 167, 0, 4, 3]
abbrev dktX2_hangsStill_2 : List UInt8 := dkwX2_hangsStill_2 ++ dktX2_hangsStill_3
def dkwX2_hangsStill_1 : List UInt8 := [100, 184, 1, 67, 42, 180, 0, 7, 4, 46, 163, 0, 37, 42, 182, 1, 36, 184, 1, 67, 42, 180, 0, 7]
abbrev dktX2_hangsStill_1 : List UInt8 := dkwX2_hangsStill_1 ++ dktX2_hangsStill_2
def dkwX2_hangsStill_0 : List UInt8 := [42, 180, 0, 7, 16, 9, 46, 154, 0, 64, 42, 180, 0, 7, 16, 8, 46, 42, 180, 0, 7, 16, 15, 46]
abbrev dktX2_hangsStill_0 : List UInt8 := dkwX2_hangsStill_0 ++ dktX2_hangsStill_1
theorem dksX2_hangsStill_0 : cX2_hangsStill.data.toList.drop 0 = dktX2_hangsStill_0 := by decide +kernel
theorem dksX2_hangsStill_1 : cX2_hangsStill.data.toList.drop 24 = dktX2_hangsStill_1 := dk_seg dksX2_hangsStill_0 24 rfl rfl
theorem dksX2_hangsStill_2 : cX2_hangsStill.data.toList.drop 48 = dktX2_hangsStill_2 := dk_seg dksX2_hangsStill_1 24 rfl rfl
theorem dksX2_hangsStill_3 : cX2_hangsStill.data.toList.drop 72 = dktX2_hangsStill_3 := dk_seg dksX2_hangsStill_2 24 rfl rfl
theorem dX2_hangsStill_0 : decode cX2_hangsStill 0 = .ok (.aload_n 0, 1) := dk_42 (dk_at dksX2_hangsStill_0 0 rfl rfl)
theorem dX2_hangsStill_1 : decode cX2_hangsStill 1 = .ok (.getfield 7, 3) := dk_180 0 7 (dk_at dksX2_hangsStill_0 1 rfl rfl)
theorem dX2_hangsStill_4 : decode cX2_hangsStill 4 = .ok (.bipush 9, 2) := dk_16 9 (dk_at dksX2_hangsStill_0 4 rfl rfl)
theorem dX2_hangsStill_6 : decode cX2_hangsStill 6 = .ok (.iaload, 1) := dk_46 (dk_at dksX2_hangsStill_0 6 rfl rfl)
theorem dX2_hangsStill_7 : decode cX2_hangsStill 7 = .ok (.ifCond .ne 64, 3) := dk_154 0 64 (dk_at dksX2_hangsStill_0 7 rfl rfl)
theorem dX2_hangsStill_10 : decode cX2_hangsStill 10 = .ok (.aload_n 0, 1) := dk_42 (dk_at dksX2_hangsStill_0 10 rfl rfl)
theorem dX2_hangsStill_11 : decode cX2_hangsStill 11 = .ok (.getfield 7, 3) := dk_180 0 7 (dk_at dksX2_hangsStill_0 11 rfl rfl)
theorem dX2_hangsStill_14 : decode cX2_hangsStill 14 = .ok (.bipush 8, 2) := dk_16 8 (dk_at dksX2_hangsStill_0 14 rfl rfl)
theorem dX2_hangsStill_16 : decode cX2_hangsStill 16 = .ok (.iaload, 1) := dk_46 (dk_at dksX2_hangsStill_0 16 rfl rfl)
theorem dX2_hangsStill_17 : decode cX2_hangsStill 17 = .ok (.aload_n 0, 1) := dk_42 (dk_at dksX2_hangsStill_0 17 rfl rfl)
theorem dX2_hangsStill_18 : decode cX2_hangsStill 18 = .ok (.getfield 7, 3) := dk_180 0 7 (dk_at dksX2_hangsStill_0 18 rfl rfl)
theorem dX2_hangsStill_21 : decode cX2_hangsStill 21 = .ok (.bipush 15, 2) := dk_16 15 (dk_at dksX2_hangsStill_0 21 rfl rfl)
theorem dX2_hangsStill_23 : decode cX2_hangsStill 23 = .ok (.iaload, 1) := dk_46 (dk_at dksX2_hangsStill_0 23 rfl rfl)
theorem dX2_hangsStill_24 : decode cX2_hangsStill 24 = .ok (.isub, 1) := dk_100 (dk_at dksX2_hangsStill_1 0 rfl rfl)
theorem dX2_hangsStill_25 : decode cX2_hangsStill 25 = .ok (.invokestatic 323, 3) := dk_184 1 67 (dk_at dksX2_hangsStill_1 1 rfl rfl)
theorem dX2_hangsStill_28 : decode cX2_hangsStill 28 = .ok (.aload_n 0, 1) := dk_42 (dk_at dksX2_hangsStill_1 4 rfl rfl)
theorem dX2_hangsStill_29 : decode cX2_hangsStill 29 = .ok (.getfield 7, 3) := dk_180 0 7 (dk_at dksX2_hangsStill_1 5 rfl rfl)
theorem dX2_hangsStill_32 : decode cX2_hangsStill 32 = .ok (.iconst 1, 1) := dk_4 (dk_at dksX2_hangsStill_1 8 rfl rfl)
theorem dX2_hangsStill_33 : decode cX2_hangsStill 33 = .ok (.iaload, 1) := dk_46 (dk_at dksX2_hangsStill_1 9 rfl rfl)
theorem dX2_hangsStill_34 : decode cX2_hangsStill 34 = .ok (.if_icmp .gt 37, 3) := dk_163 0 37 (dk_at dksX2_hangsStill_1 10 rfl rfl)
theorem dX2_hangsStill_37 : decode cX2_hangsStill 37 = .ok (.aload_n 0, 1) := dk_42 (dk_at dksX2_hangsStill_1 13 rfl rfl)
theorem dX2_hangsStill_38 : decode cX2_hangsStill 38 = .ok (.invokevirtual 292, 3) := dk_182 1 36 (dk_at dksX2_hangsStill_1 14 rfl rfl)
theorem dX2_hangsStill_41 : decode cX2_hangsStill 41 = .ok (.invokestatic 323, 3) := dk_184 1 67 (dk_at dksX2_hangsStill_1 17 rfl rfl)
theorem dX2_hangsStill_44 : decode cX2_hangsStill 44 = .ok (.aload_n 0, 1) := dk_42 (dk_at dksX2_hangsStill_1 20 rfl rfl)
theorem dX2_hangsStill_45 : decode cX2_hangsStill 45 = .ok (.getfield 7, 3) := dk_180 0 7 (dk_at dksX2_hangsStill_1 21 rfl rfl)
theorem dX2_hangsStill_48 : decode cX2_hangsStill 48 = .ok (.iconst 1, 1) := dk_4 (dk_at dksX2_hangsStill_2 0 rfl rfl)
theorem dX2_hangsStill_49 : decode cX2_hangsStill 49 = .ok (.iaload, 1) := dk_46 (dk_at dksX2_hangsStill_2 1 rfl rfl)
theorem dX2_hangsStill_50 : decode cX2_hangsStill 50 = .ok (.if_icmp .gt 21, 3) := dk_163 0 21 (dk_at dksX2_hangsStill_2 2 rfl rfl)
theorem dX2_hangsStill_53 : decode cX2_hangsStill 53 = .ok (.aload_n 0, 1) := dk_42 (dk_at dksX2_hangsStill_2 5 rfl rfl)
theorem dX2_hangsStill_54 : decode cX2_hangsStill 54 = .ok (.getfield 7, 3) := dk_180 0 7 (dk_at dksX2_hangsStill_2 6 rfl rfl)
theorem dX2_hangsStill_57 : decode cX2_hangsStill 57 = .ok (.bipush 11, 2) := dk_16 11 (dk_at dksX2_hangsStill_2 9 rfl rfl)
theorem dX2_hangsStill_59 : decode cX2_hangsStill 59 = .ok (.iaload, 1) := dk_46 (dk_at dksX2_hangsStill_2 11 rfl rfl)
theorem dX2_hangsStill_60 : decode cX2_hangsStill 60 = .ok (.invokestatic 323, 3) := dk_184 1 67 (dk_at dksX2_hangsStill_2 12 rfl rfl)
theorem dX2_hangsStill_63 : decode cX2_hangsStill 63 = .ok (.iconst 1, 1) := dk_4 (dk_at dksX2_hangsStill_2 15 rfl rfl)
theorem dX2_hangsStill_64 : decode cX2_hangsStill 64 = .ok (.if_icmp .gt 7, 3) := dk_163 0 7 (dk_at dksX2_hangsStill_2 16 rfl rfl)
theorem dX2_hangsStill_67 : decode cX2_hangsStill 67 = .ok (.iconst 1, 1) := dk_4 (dk_at dksX2_hangsStill_2 19 rfl rfl)
theorem dX2_hangsStill_68 : decode cX2_hangsStill 68 = .ok (.goto 4, 3) := dk_167 0 4 (dk_at dksX2_hangsStill_2 20 rfl rfl)
theorem dX2_hangsStill_71 : decode cX2_hangsStill 71 = .ok (.iconst 0, 1) := dk_3 (dk_at dksX2_hangsStill_2 23 rfl rfl)
theorem dX2_hangsStill_72 : decode cX2_hangsStill 72 = .ok (.ireturn, 1) := dk_172 (dk_at dksX2_hangsStill_3 0 rfl rfl)
abbrev cX2_sizeOf : ByteArray := prog_19_method_5_code
def yX2_sizeOf : MethodName := ⟨RX2, "sizeOf", "(I)I"⟩
def dkwX2_sizeOf_0 : List UInt8 := [26, 156, 0, 8, 26, 116, 167, 0, 4, 26, 172]
abbrev dktX2_sizeOf_0 : List UInt8 := dkwX2_sizeOf_0 ++ []
theorem dksX2_sizeOf_0 : cX2_sizeOf.data.toList.drop 0 = dktX2_sizeOf_0 := by decide +kernel
theorem dX2_sizeOf_0 : decode cX2_sizeOf 0 = .ok (.iload_n 0, 1) := dk_26 (dk_at dksX2_sizeOf_0 0 rfl rfl)
theorem dX2_sizeOf_1 : decode cX2_sizeOf 1 = .ok (.ifCond .ge 8, 3) := dk_156 0 8 (dk_at dksX2_sizeOf_0 1 rfl rfl)
theorem dX2_sizeOf_4 : decode cX2_sizeOf 4 = .ok (.iload_n 0, 1) := dk_26 (dk_at dksX2_sizeOf_0 4 rfl rfl)
theorem dX2_sizeOf_5 : decode cX2_sizeOf 5 = .ok (.ineg, 1) := dk_116 (dk_at dksX2_sizeOf_0 5 rfl rfl)
theorem dX2_sizeOf_6 : decode cX2_sizeOf 6 = .ok (.goto 4, 3) := dk_167 0 4 (dk_at dksX2_sizeOf_0 6 rfl rfl)
theorem dX2_sizeOf_9 : decode cX2_sizeOf 9 = .ok (.iload_n 0, 1) := dk_26 (dk_at dksX2_sizeOf_0 9 rfl rfl)
theorem dX2_sizeOf_10 : decode cX2_sizeOf 10 = .ok (.ireturn, 1) := dk_172 (dk_at dksX2_sizeOf_0 10 rfl rfl)
abbrev cX2_played : ByteArray := prog_19_method_86_code
def yX2_played : MethodName := ⟨RX2, "played", "(I)I"⟩
def dkwX2_played_2 : List UInt8 := [96, 182, 1, 110, 154, 0, 5, 28, 172, 132, 2, 1, 167, 255, 218, 2, 172]
abbrev dktX2_played_2 : List UInt8 := dkwX2_played_2 ++ []
def dkwX2_played_1 : List UInt8 := [180, 0, 16, 17, 2, 241, 27, 104, 46, 162, 0, 30, 42, 17, 2, 241, 27, 104, 4, 96, 16, 6, 28, 104]
abbrev dktX2_played_1 : List UInt8 := dkwX2_played_1 ++ dktX2_played_2
def dkwX2_played_0 : List UInt8 := [27, 3, 42, 180, 0, 7, 6, 46, 4, 100, 184, 0, 71, 154, 0, 6, 16, 254, 172, 3, 61, 28, 42]
abbrev dktX2_played_0 : List UInt8 := dkwX2_played_0 ++ dktX2_played_1
theorem dksX2_played_0 : cX2_played.data.toList.drop 0 = dktX2_played_0 := by decide +kernel
theorem dksX2_played_1 : cX2_played.data.toList.drop 23 = dktX2_played_1 := dk_seg dksX2_played_0 23 rfl rfl
theorem dksX2_played_2 : cX2_played.data.toList.drop 47 = dktX2_played_2 := dk_seg dksX2_played_1 24 rfl rfl
theorem dX2_played_0 : decode cX2_played 0 = .ok (.iload_n 1, 1) := dk_27 (dk_at dksX2_played_0 0 rfl rfl)
theorem dX2_played_1 : decode cX2_played 1 = .ok (.iconst 0, 1) := dk_3 (dk_at dksX2_played_0 1 rfl rfl)
theorem dX2_played_2 : decode cX2_played 2 = .ok (.aload_n 0, 1) := dk_42 (dk_at dksX2_played_0 2 rfl rfl)
theorem dX2_played_3 : decode cX2_played 3 = .ok (.getfield 7, 3) := dk_180 0 7 (dk_at dksX2_played_0 3 rfl rfl)
theorem dX2_played_6 : decode cX2_played 6 = .ok (.iconst 3, 1) := dk_6 (dk_at dksX2_played_0 6 rfl rfl)
theorem dX2_played_7 : decode cX2_played 7 = .ok (.iaload, 1) := dk_46 (dk_at dksX2_played_0 7 rfl rfl)
theorem dX2_played_8 : decode cX2_played 8 = .ok (.iconst 1, 1) := dk_4 (dk_at dksX2_played_0 8 rfl rfl)
theorem dX2_played_9 : decode cX2_played 9 = .ok (.isub, 1) := dk_100 (dk_at dksX2_played_0 9 rfl rfl)
theorem dX2_played_10 : decode cX2_played 10 = .ok (.invokestatic 71, 3) := dk_184 0 71 (dk_at dksX2_played_0 10 rfl rfl)
theorem dX2_played_13 : decode cX2_played 13 = .ok (.ifCond .ne 6, 3) := dk_154 0 6 (dk_at dksX2_played_0 13 rfl rfl)
theorem dX2_played_16 : decode cX2_played 16 = .ok (.bipush (-2), 2) := dk_16 254 (dk_at dksX2_played_0 16 rfl rfl)
theorem dX2_played_18 : decode cX2_played 18 = .ok (.ireturn, 1) := dk_172 (dk_at dksX2_played_0 18 rfl rfl)
theorem dX2_played_19 : decode cX2_played 19 = .ok (.iconst 0, 1) := dk_3 (dk_at dksX2_played_0 19 rfl rfl)
theorem dX2_played_20 : decode cX2_played 20 = .ok (.istore_n 2, 1) := dk_61 (dk_at dksX2_played_0 20 rfl rfl)
theorem dX2_played_21 : decode cX2_played 21 = .ok (.iload_n 2, 1) := dk_28 (dk_at dksX2_played_0 21 rfl rfl)
theorem dX2_played_22 : decode cX2_played 22 = .ok (.aload_n 0, 1) := dk_42 (dk_at dksX2_played_0 22 rfl rfl)
theorem dX2_played_23 : decode cX2_played 23 = .ok (.getfield 16, 3) := dk_180 0 16 (dk_at dksX2_played_1 0 rfl rfl)
theorem dX2_played_26 : decode cX2_played 26 = .ok (.sipush 753, 3) := dk_17 2 241 (dk_at dksX2_played_1 3 rfl rfl)
theorem dX2_played_29 : decode cX2_played 29 = .ok (.iload_n 1, 1) := dk_27 (dk_at dksX2_played_1 6 rfl rfl)
theorem dX2_played_30 : decode cX2_played 30 = .ok (.imul, 1) := dk_104 (dk_at dksX2_played_1 7 rfl rfl)
theorem dX2_played_31 : decode cX2_played 31 = .ok (.iaload, 1) := dk_46 (dk_at dksX2_played_1 8 rfl rfl)
theorem dX2_played_32 : decode cX2_played 32 = .ok (.if_icmp .ge 30, 3) := dk_162 0 30 (dk_at dksX2_played_1 9 rfl rfl)
theorem dX2_played_35 : decode cX2_played 35 = .ok (.aload_n 0, 1) := dk_42 (dk_at dksX2_played_1 12 rfl rfl)
theorem dX2_played_36 : decode cX2_played 36 = .ok (.sipush 753, 3) := dk_17 2 241 (dk_at dksX2_played_1 13 rfl rfl)
theorem dX2_played_39 : decode cX2_played 39 = .ok (.iload_n 1, 1) := dk_27 (dk_at dksX2_played_1 16 rfl rfl)
theorem dX2_played_40 : decode cX2_played 40 = .ok (.imul, 1) := dk_104 (dk_at dksX2_played_1 17 rfl rfl)
theorem dX2_played_41 : decode cX2_played 41 = .ok (.iconst 1, 1) := dk_4 (dk_at dksX2_played_1 18 rfl rfl)
theorem dX2_played_42 : decode cX2_played 42 = .ok (.iadd, 1) := dk_96 (dk_at dksX2_played_1 19 rfl rfl)
theorem dX2_played_43 : decode cX2_played 43 = .ok (.bipush 6, 2) := dk_16 6 (dk_at dksX2_played_1 20 rfl rfl)
theorem dX2_played_45 : decode cX2_played 45 = .ok (.iload_n 2, 1) := dk_28 (dk_at dksX2_played_1 22 rfl rfl)
theorem dX2_played_46 : decode cX2_played 46 = .ok (.imul, 1) := dk_104 (dk_at dksX2_played_1 23 rfl rfl)
theorem dX2_played_47 : decode cX2_played 47 = .ok (.iadd, 1) := dk_96 (dk_at dksX2_played_2 0 rfl rfl)
theorem dX2_played_48 : decode cX2_played 48 = .ok (.invokevirtual 366, 3) := dk_182 1 110 (dk_at dksX2_played_2 1 rfl rfl)
theorem dX2_played_51 : decode cX2_played 51 = .ok (.ifCond .ne 5, 3) := dk_154 0 5 (dk_at dksX2_played_2 4 rfl rfl)
theorem dX2_played_54 : decode cX2_played 54 = .ok (.iload_n 2, 1) := dk_28 (dk_at dksX2_played_2 7 rfl rfl)
theorem dX2_played_55 : decode cX2_played 55 = .ok (.ireturn, 1) := dk_172 (dk_at dksX2_played_2 8 rfl rfl)
theorem dX2_played_56 : decode cX2_played 56 = .ok (.iinc 2 1, 3) := dk_132 2 1 (dk_at dksX2_played_2 9 rfl rfl)
theorem dX2_played_59 : decode cX2_played 59 = .ok (.goto (-38), 3) := dk_167 255 218 (dk_at dksX2_played_2 12 rfl rfl)
theorem dX2_played_62 : decode cX2_played 62 = .ok (.iconst (-1), 1) := dk_2 (dk_at dksX2_played_2 15 rfl rfl)
theorem dX2_played_63 : decode cX2_played 63 = .ok (.ireturn, 1) := dk_172 (dk_at dksX2_played_2 16 rfl rfl)
abbrev cX2_isPlayed : ByteArray := prog_19_method_85_code
def yX2_isPlayed : MethodName := ⟨RX2, "isPlayed", "(I)Z"⟩
def dkwX2_isPlayed_5 : List UInt8 := [182, 1, 104, 172, 42, 182, 1, 107, 155, 0, 7, 4, 167, 0, 4, 3, 172, 4, 172]
abbrev dktX2_isPlayed_5 : List UInt8 := dkwX2_isPlayed_5 ++ []
def dkwX2_isPlayed_4 : List UInt8 := [182, 1, 79, 172, 42, 28, 182, 1, 85, 172, 42, 28, 182, 1, 98, 172, 42, 28, 182, 1, 101, 172, 42, 28]
abbrev dktX2_isPlayed_4 : List UInt8 := dkwX2_isPlayed_4 ++ dktX2_isPlayed_5
def dkwX2_isPlayed_3 : List UInt8 := [96, 46, 42, 180, 0, 16, 27, 8, 96, 46, 182, 1, 94, 155, 0, 7, 4, 167, 0, 4, 3, 172, 42, 28]
abbrev dktX2_isPlayed_3 : List UInt8 := dkwX2_isPlayed_3 ++ dktX2_isPlayed_4
def dkwX2_isPlayed_2 : List UInt8 := [42, 28, 42, 180, 0, 16, 27, 5, 96, 46, 42, 180, 0, 16, 27, 6, 96, 46, 42, 180, 0, 16, 27, 7]
abbrev dktX2_isPlayed_2 : List UInt8 := dkwX2_isPlayed_2 ++ dktX2_isPlayed_3
def dkwX2_isPlayed_1 : List UInt8 := [170, 0, 0, 0, 130, 0, 0, 0, 5, 0, 0, 0, 11, 0, 0, 0, 41, 0, 0, 0, 87, 0, 0, 0, 93, 0, 0, 0, 99, 0, 0, 0, 105, 0, 0, 0, 111, 0, 0, 0, 117]
abbrev dktX2_isPlayed_1 : List UInt8 := dkwX2_isPlayed_1 ++ dktX2_isPlayed_2
def dkwX2_isPlayed_0 : List UInt8 := [42, 180, 0, 16, 27, 4, 96, 46, 61, 42, 180, 0, 16, 27, 46]
abbrev dktX2_isPlayed_0 : List UInt8 := dkwX2_isPlayed_0 ++ dktX2_isPlayed_1
theorem dksX2_isPlayed_0 : cX2_isPlayed.data.toList.drop 0 = dktX2_isPlayed_0 := by decide +kernel
theorem dksX2_isPlayed_1 : cX2_isPlayed.data.toList.drop 15 = dktX2_isPlayed_1 := dk_seg dksX2_isPlayed_0 15 rfl rfl
theorem dksX2_isPlayed_2 : cX2_isPlayed.data.toList.drop 56 = dktX2_isPlayed_2 := dk_seg dksX2_isPlayed_1 41 rfl rfl
theorem dksX2_isPlayed_3 : cX2_isPlayed.data.toList.drop 80 = dktX2_isPlayed_3 := dk_seg dksX2_isPlayed_2 24 rfl rfl
theorem dksX2_isPlayed_4 : cX2_isPlayed.data.toList.drop 104 = dktX2_isPlayed_4 := dk_seg dksX2_isPlayed_3 24 rfl rfl
theorem dksX2_isPlayed_5 : cX2_isPlayed.data.toList.drop 128 = dktX2_isPlayed_5 := dk_seg dksX2_isPlayed_4 24 rfl rfl
theorem dX2_isPlayed_0 : decode cX2_isPlayed 0 = .ok (.aload_n 0, 1) := dk_42 (dk_at dksX2_isPlayed_0 0 rfl rfl)
theorem dX2_isPlayed_1 : decode cX2_isPlayed 1 = .ok (.getfield 16, 3) := dk_180 0 16 (dk_at dksX2_isPlayed_0 1 rfl rfl)
theorem dX2_isPlayed_4 : decode cX2_isPlayed 4 = .ok (.iload_n 1, 1) := dk_27 (dk_at dksX2_isPlayed_0 4 rfl rfl)
theorem dX2_isPlayed_5 : decode cX2_isPlayed 5 = .ok (.iconst 1, 1) := dk_4 (dk_at dksX2_isPlayed_0 5 rfl rfl)
theorem dX2_isPlayed_6 : decode cX2_isPlayed 6 = .ok (.iadd, 1) := dk_96 (dk_at dksX2_isPlayed_0 6 rfl rfl)
theorem dX2_isPlayed_7 : decode cX2_isPlayed 7 = .ok (.iaload, 1) := dk_46 (dk_at dksX2_isPlayed_0 7 rfl rfl)
theorem dX2_isPlayed_8 : decode cX2_isPlayed 8 = .ok (.istore_n 2, 1) := dk_61 (dk_at dksX2_isPlayed_0 8 rfl rfl)
theorem dX2_isPlayed_9 : decode cX2_isPlayed 9 = .ok (.aload_n 0, 1) := dk_42 (dk_at dksX2_isPlayed_0 9 rfl rfl)
theorem dX2_isPlayed_10 : decode cX2_isPlayed 10 = .ok (.getfield 16, 3) := dk_180 0 16 (dk_at dksX2_isPlayed_0 10 rfl rfl)
theorem dX2_isPlayed_13 : decode cX2_isPlayed 13 = .ok (.iload_n 1, 1) := dk_27 (dk_at dksX2_isPlayed_0 13 rfl rfl)
theorem dX2_isPlayed_14 : decode cX2_isPlayed 14 = .ok (.iaload, 1) := dk_46 (dk_at dksX2_isPlayed_0 14 rfl rfl)
theorem dX2_isPlayed_15 : decode cX2_isPlayed 15 = .ok (.tableswitch 130 5 11 #[41, 87, 93, 99, 105, 111, 117], 41) := by decide +kernel
theorem dX2_isPlayed_56 : decode cX2_isPlayed 56 = .ok (.aload_n 0, 1) := dk_42 (dk_at dksX2_isPlayed_2 0 rfl rfl)
theorem dX2_isPlayed_57 : decode cX2_isPlayed 57 = .ok (.iload_n 2, 1) := dk_28 (dk_at dksX2_isPlayed_2 1 rfl rfl)
theorem dX2_isPlayed_58 : decode cX2_isPlayed 58 = .ok (.aload_n 0, 1) := dk_42 (dk_at dksX2_isPlayed_2 2 rfl rfl)
theorem dX2_isPlayed_59 : decode cX2_isPlayed 59 = .ok (.getfield 16, 3) := dk_180 0 16 (dk_at dksX2_isPlayed_2 3 rfl rfl)
theorem dX2_isPlayed_62 : decode cX2_isPlayed 62 = .ok (.iload_n 1, 1) := dk_27 (dk_at dksX2_isPlayed_2 6 rfl rfl)
theorem dX2_isPlayed_63 : decode cX2_isPlayed 63 = .ok (.iconst 2, 1) := dk_5 (dk_at dksX2_isPlayed_2 7 rfl rfl)
theorem dX2_isPlayed_64 : decode cX2_isPlayed 64 = .ok (.iadd, 1) := dk_96 (dk_at dksX2_isPlayed_2 8 rfl rfl)
theorem dX2_isPlayed_65 : decode cX2_isPlayed 65 = .ok (.iaload, 1) := dk_46 (dk_at dksX2_isPlayed_2 9 rfl rfl)
theorem dX2_isPlayed_66 : decode cX2_isPlayed 66 = .ok (.aload_n 0, 1) := dk_42 (dk_at dksX2_isPlayed_2 10 rfl rfl)
theorem dX2_isPlayed_67 : decode cX2_isPlayed 67 = .ok (.getfield 16, 3) := dk_180 0 16 (dk_at dksX2_isPlayed_2 11 rfl rfl)
theorem dX2_isPlayed_70 : decode cX2_isPlayed 70 = .ok (.iload_n 1, 1) := dk_27 (dk_at dksX2_isPlayed_2 14 rfl rfl)
theorem dX2_isPlayed_71 : decode cX2_isPlayed 71 = .ok (.iconst 3, 1) := dk_6 (dk_at dksX2_isPlayed_2 15 rfl rfl)
theorem dX2_isPlayed_72 : decode cX2_isPlayed 72 = .ok (.iadd, 1) := dk_96 (dk_at dksX2_isPlayed_2 16 rfl rfl)
theorem dX2_isPlayed_73 : decode cX2_isPlayed 73 = .ok (.iaload, 1) := dk_46 (dk_at dksX2_isPlayed_2 17 rfl rfl)
theorem dX2_isPlayed_74 : decode cX2_isPlayed 74 = .ok (.aload_n 0, 1) := dk_42 (dk_at dksX2_isPlayed_2 18 rfl rfl)
theorem dX2_isPlayed_75 : decode cX2_isPlayed 75 = .ok (.getfield 16, 3) := dk_180 0 16 (dk_at dksX2_isPlayed_2 19 rfl rfl)
theorem dX2_isPlayed_78 : decode cX2_isPlayed 78 = .ok (.iload_n 1, 1) := dk_27 (dk_at dksX2_isPlayed_2 22 rfl rfl)
theorem dX2_isPlayed_79 : decode cX2_isPlayed 79 = .ok (.iconst 4, 1) := dk_7 (dk_at dksX2_isPlayed_2 23 rfl rfl)
theorem dX2_isPlayed_80 : decode cX2_isPlayed 80 = .ok (.iadd, 1) := dk_96 (dk_at dksX2_isPlayed_3 0 rfl rfl)
theorem dX2_isPlayed_81 : decode cX2_isPlayed 81 = .ok (.iaload, 1) := dk_46 (dk_at dksX2_isPlayed_3 1 rfl rfl)
theorem dX2_isPlayed_82 : decode cX2_isPlayed 82 = .ok (.aload_n 0, 1) := dk_42 (dk_at dksX2_isPlayed_3 2 rfl rfl)
theorem dX2_isPlayed_83 : decode cX2_isPlayed 83 = .ok (.getfield 16, 3) := dk_180 0 16 (dk_at dksX2_isPlayed_3 3 rfl rfl)
theorem dX2_isPlayed_86 : decode cX2_isPlayed 86 = .ok (.iload_n 1, 1) := dk_27 (dk_at dksX2_isPlayed_3 6 rfl rfl)
theorem dX2_isPlayed_87 : decode cX2_isPlayed 87 = .ok (.iconst 5, 1) := dk_8 (dk_at dksX2_isPlayed_3 7 rfl rfl)
theorem dX2_isPlayed_88 : decode cX2_isPlayed 88 = .ok (.iadd, 1) := dk_96 (dk_at dksX2_isPlayed_3 8 rfl rfl)
theorem dX2_isPlayed_89 : decode cX2_isPlayed 89 = .ok (.iaload, 1) := dk_46 (dk_at dksX2_isPlayed_3 9 rfl rfl)
theorem dX2_isPlayed_90 : decode cX2_isPlayed 90 = .ok (.invokevirtual 350, 3) := dk_182 1 94 (dk_at dksX2_isPlayed_3 10 rfl rfl)
theorem dX2_isPlayed_93 : decode cX2_isPlayed 93 = .ok (.ifCond .lt 7, 3) := dk_155 0 7 (dk_at dksX2_isPlayed_3 13 rfl rfl)
theorem dX2_isPlayed_96 : decode cX2_isPlayed 96 = .ok (.iconst 1, 1) := dk_4 (dk_at dksX2_isPlayed_3 16 rfl rfl)
theorem dX2_isPlayed_97 : decode cX2_isPlayed 97 = .ok (.goto 4, 3) := dk_167 0 4 (dk_at dksX2_isPlayed_3 17 rfl rfl)
theorem dX2_isPlayed_100 : decode cX2_isPlayed 100 = .ok (.iconst 0, 1) := dk_3 (dk_at dksX2_isPlayed_3 20 rfl rfl)
theorem dX2_isPlayed_101 : decode cX2_isPlayed 101 = .ok (.ireturn, 1) := dk_172 (dk_at dksX2_isPlayed_3 21 rfl rfl)
theorem dX2_isPlayed_102 : decode cX2_isPlayed 102 = .ok (.aload_n 0, 1) := dk_42 (dk_at dksX2_isPlayed_3 22 rfl rfl)
theorem dX2_isPlayed_103 : decode cX2_isPlayed 103 = .ok (.iload_n 2, 1) := dk_28 (dk_at dksX2_isPlayed_3 23 rfl rfl)
theorem dX2_isPlayed_104 : decode cX2_isPlayed 104 = .ok (.invokevirtual 335, 3) := dk_182 1 79 (dk_at dksX2_isPlayed_4 0 rfl rfl)
theorem dX2_isPlayed_107 : decode cX2_isPlayed 107 = .ok (.ireturn, 1) := dk_172 (dk_at dksX2_isPlayed_4 3 rfl rfl)
theorem dX2_isPlayed_108 : decode cX2_isPlayed 108 = .ok (.aload_n 0, 1) := dk_42 (dk_at dksX2_isPlayed_4 4 rfl rfl)
theorem dX2_isPlayed_109 : decode cX2_isPlayed 109 = .ok (.iload_n 2, 1) := dk_28 (dk_at dksX2_isPlayed_4 5 rfl rfl)
theorem dX2_isPlayed_110 : decode cX2_isPlayed 110 = .ok (.invokevirtual 341, 3) := dk_182 1 85 (dk_at dksX2_isPlayed_4 6 rfl rfl)
theorem dX2_isPlayed_113 : decode cX2_isPlayed 113 = .ok (.ireturn, 1) := dk_172 (dk_at dksX2_isPlayed_4 9 rfl rfl)
theorem dX2_isPlayed_114 : decode cX2_isPlayed 114 = .ok (.aload_n 0, 1) := dk_42 (dk_at dksX2_isPlayed_4 10 rfl rfl)
theorem dX2_isPlayed_115 : decode cX2_isPlayed 115 = .ok (.iload_n 2, 1) := dk_28 (dk_at dksX2_isPlayed_4 11 rfl rfl)
theorem dX2_isPlayed_116 : decode cX2_isPlayed 116 = .ok (.invokevirtual 354, 3) := dk_182 1 98 (dk_at dksX2_isPlayed_4 12 rfl rfl)
theorem dX2_isPlayed_119 : decode cX2_isPlayed 119 = .ok (.ireturn, 1) := dk_172 (dk_at dksX2_isPlayed_4 15 rfl rfl)
theorem dX2_isPlayed_120 : decode cX2_isPlayed 120 = .ok (.aload_n 0, 1) := dk_42 (dk_at dksX2_isPlayed_4 16 rfl rfl)
theorem dX2_isPlayed_121 : decode cX2_isPlayed 121 = .ok (.iload_n 2, 1) := dk_28 (dk_at dksX2_isPlayed_4 17 rfl rfl)
theorem dX2_isPlayed_122 : decode cX2_isPlayed 122 = .ok (.invokevirtual 357, 3) := dk_182 1 101 (dk_at dksX2_isPlayed_4 18 rfl rfl)
theorem dX2_isPlayed_125 : decode cX2_isPlayed 125 = .ok (.ireturn, 1) := dk_172 (dk_at dksX2_isPlayed_4 21 rfl rfl)
theorem dX2_isPlayed_126 : decode cX2_isPlayed 126 = .ok (.aload_n 0, 1) := dk_42 (dk_at dksX2_isPlayed_4 22 rfl rfl)
theorem dX2_isPlayed_127 : decode cX2_isPlayed 127 = .ok (.iload_n 2, 1) := dk_28 (dk_at dksX2_isPlayed_4 23 rfl rfl)
theorem dX2_isPlayed_128 : decode cX2_isPlayed 128 = .ok (.invokevirtual 360, 3) := dk_182 1 104 (dk_at dksX2_isPlayed_5 0 rfl rfl)
theorem dX2_isPlayed_131 : decode cX2_isPlayed 131 = .ok (.ireturn, 1) := dk_172 (dk_at dksX2_isPlayed_5 3 rfl rfl)
theorem dX2_isPlayed_132 : decode cX2_isPlayed 132 = .ok (.aload_n 0, 1) := dk_42 (dk_at dksX2_isPlayed_5 4 rfl rfl)
theorem dX2_isPlayed_133 : decode cX2_isPlayed 133 = .ok (.invokevirtual 363, 3) := dk_182 1 107 (dk_at dksX2_isPlayed_5 5 rfl rfl)
theorem dX2_isPlayed_136 : decode cX2_isPlayed 136 = .ok (.ifCond .lt 7, 3) := dk_155 0 7 (dk_at dksX2_isPlayed_5 8 rfl rfl)
theorem dX2_isPlayed_139 : decode cX2_isPlayed 139 = .ok (.iconst 1, 1) := dk_4 (dk_at dksX2_isPlayed_5 11 rfl rfl)
theorem dX2_isPlayed_140 : decode cX2_isPlayed 140 = .ok (.goto 4, 3) := dk_167 0 4 (dk_at dksX2_isPlayed_5 12 rfl rfl)
theorem dX2_isPlayed_143 : decode cX2_isPlayed 143 = .ok (.iconst 0, 1) := dk_3 (dk_at dksX2_isPlayed_5 15 rfl rfl)
theorem dX2_isPlayed_144 : decode cX2_isPlayed 144 = .ok (.ireturn, 1) := dk_172 (dk_at dksX2_isPlayed_5 16 rfl rfl)
theorem dX2_isPlayed_145 : decode cX2_isPlayed 145 = .ok (.iconst 1, 1) := dk_4 (dk_at dksX2_isPlayed_5 17 rfl rfl)
theorem dX2_isPlayed_146 : decode cX2_isPlayed 146 = .ok (.ireturn, 1) := dk_172 (dk_at dksX2_isPlayed_5 18 rfl rfl)
abbrev cX2_storm : ByteArray := prog_19_method_87_code
def yX2_storm : MethodName := ⟨RX2, "storm", "(II)I"⟩
def dkwX2_storm_4 : List UInt8 := [182, 1, 76, 42, 182, 1, 46, 132, 3, 1, 167, 255, 210, 42, 180, 0, 7, 16, 8, 46, 172]
abbrev dktX2_storm_4 : List UInt8 := dkwX2_storm_4 ++ []
def dkwX2_storm_3 : List UInt8 := [180, 0, 7, 5, 46, 16, 10, 112, 79, 42, 182, 1, 46, 42, 42, 180, 0, 7, 5, 46, 6, 112, 4, 100]
abbrev dktX2_storm_3 : List UInt8 := dkwX2_storm_3 ++ dktX2_storm_4
def dkwX2_storm_2 : List UInt8 := [5, 27, 6, 104, 16, 59, 96, 79, 3, 62, 29, 28, 162, 0, 47, 42, 180, 0, 7, 16, 14, 42]
abbrev dktX2_storm_2 : List UInt8 := dkwX2_storm_2 ++ dktX2_storm_3
def dkwX2_storm_1 : List UInt8 := [180, 0, 7, 16, 16, 46, 28, 96, 17, 39, 15, 164, 0, 5, 2, 172, 42, 182, 1, 73, 42, 180, 0, 7]
abbrev dktX2_storm_1 : List UInt8 := dkwX2_storm_1 ++ dktX2_storm_2
def dkwX2_storm_0 : List UInt8 := [27, 3, 17, 39, 15, 184, 0, 71, 153, 0, 28, 28, 4, 16, 40, 184, 0, 71, 153, 0, 18, 42]
abbrev dktX2_storm_0 : List UInt8 := dkwX2_storm_0 ++ dktX2_storm_1
theorem dksX2_storm_0 : cX2_storm.data.toList.drop 0 = dktX2_storm_0 := by decide +kernel
theorem dksX2_storm_1 : cX2_storm.data.toList.drop 22 = dktX2_storm_1 := dk_seg dksX2_storm_0 22 rfl rfl
theorem dksX2_storm_2 : cX2_storm.data.toList.drop 46 = dktX2_storm_2 := dk_seg dksX2_storm_1 24 rfl rfl
theorem dksX2_storm_3 : cX2_storm.data.toList.drop 68 = dktX2_storm_3 := dk_seg dksX2_storm_2 22 rfl rfl
theorem dksX2_storm_4 : cX2_storm.data.toList.drop 92 = dktX2_storm_4 := dk_seg dksX2_storm_3 24 rfl rfl
theorem dX2_storm_0 : decode cX2_storm 0 = .ok (.iload_n 1, 1) := dk_27 (dk_at dksX2_storm_0 0 rfl rfl)
theorem dX2_storm_1 : decode cX2_storm 1 = .ok (.iconst 0, 1) := dk_3 (dk_at dksX2_storm_0 1 rfl rfl)
theorem dX2_storm_2 : decode cX2_storm 2 = .ok (.sipush 9999, 3) := dk_17 39 15 (dk_at dksX2_storm_0 2 rfl rfl)
theorem dX2_storm_5 : decode cX2_storm 5 = .ok (.invokestatic 71, 3) := dk_184 0 71 (dk_at dksX2_storm_0 5 rfl rfl)
theorem dX2_storm_8 : decode cX2_storm 8 = .ok (.ifCond .eq 28, 3) := dk_153 0 28 (dk_at dksX2_storm_0 8 rfl rfl)
theorem dX2_storm_11 : decode cX2_storm 11 = .ok (.iload_n 2, 1) := dk_28 (dk_at dksX2_storm_0 11 rfl rfl)
theorem dX2_storm_12 : decode cX2_storm 12 = .ok (.iconst 1, 1) := dk_4 (dk_at dksX2_storm_0 12 rfl rfl)
theorem dX2_storm_13 : decode cX2_storm 13 = .ok (.bipush 40, 2) := dk_16 40 (dk_at dksX2_storm_0 13 rfl rfl)
theorem dX2_storm_15 : decode cX2_storm 15 = .ok (.invokestatic 71, 3) := dk_184 0 71 (dk_at dksX2_storm_0 15 rfl rfl)
theorem dX2_storm_18 : decode cX2_storm 18 = .ok (.ifCond .eq 18, 3) := dk_153 0 18 (dk_at dksX2_storm_0 18 rfl rfl)
theorem dX2_storm_21 : decode cX2_storm 21 = .ok (.aload_n 0, 1) := dk_42 (dk_at dksX2_storm_0 21 rfl rfl)
theorem dX2_storm_22 : decode cX2_storm 22 = .ok (.getfield 7, 3) := dk_180 0 7 (dk_at dksX2_storm_1 0 rfl rfl)
theorem dX2_storm_25 : decode cX2_storm 25 = .ok (.bipush 16, 2) := dk_16 16 (dk_at dksX2_storm_1 3 rfl rfl)
theorem dX2_storm_27 : decode cX2_storm 27 = .ok (.iaload, 1) := dk_46 (dk_at dksX2_storm_1 5 rfl rfl)
theorem dX2_storm_28 : decode cX2_storm 28 = .ok (.iload_n 2, 1) := dk_28 (dk_at dksX2_storm_1 6 rfl rfl)
theorem dX2_storm_29 : decode cX2_storm 29 = .ok (.iadd, 1) := dk_96 (dk_at dksX2_storm_1 7 rfl rfl)
theorem dX2_storm_30 : decode cX2_storm 30 = .ok (.sipush 9999, 3) := dk_17 39 15 (dk_at dksX2_storm_1 8 rfl rfl)
theorem dX2_storm_33 : decode cX2_storm 33 = .ok (.if_icmp .le 5, 3) := dk_164 0 5 (dk_at dksX2_storm_1 11 rfl rfl)
theorem dX2_storm_36 : decode cX2_storm 36 = .ok (.iconst (-1), 1) := dk_2 (dk_at dksX2_storm_1 14 rfl rfl)
theorem dX2_storm_37 : decode cX2_storm 37 = .ok (.ireturn, 1) := dk_172 (dk_at dksX2_storm_1 15 rfl rfl)
theorem dX2_storm_38 : decode cX2_storm 38 = .ok (.aload_n 0, 1) := dk_42 (dk_at dksX2_storm_1 16 rfl rfl)
theorem dX2_storm_39 : decode cX2_storm 39 = .ok (.invokevirtual 329, 3) := dk_182 1 73 (dk_at dksX2_storm_1 17 rfl rfl)
theorem dX2_storm_42 : decode cX2_storm 42 = .ok (.aload_n 0, 1) := dk_42 (dk_at dksX2_storm_1 20 rfl rfl)
theorem dX2_storm_43 : decode cX2_storm 43 = .ok (.getfield 7, 3) := dk_180 0 7 (dk_at dksX2_storm_1 21 rfl rfl)
theorem dX2_storm_46 : decode cX2_storm 46 = .ok (.iconst 2, 1) := dk_5 (dk_at dksX2_storm_2 0 rfl rfl)
theorem dX2_storm_47 : decode cX2_storm 47 = .ok (.iload_n 1, 1) := dk_27 (dk_at dksX2_storm_2 1 rfl rfl)
theorem dX2_storm_48 : decode cX2_storm 48 = .ok (.iconst 3, 1) := dk_6 (dk_at dksX2_storm_2 2 rfl rfl)
theorem dX2_storm_49 : decode cX2_storm 49 = .ok (.imul, 1) := dk_104 (dk_at dksX2_storm_2 3 rfl rfl)
theorem dX2_storm_50 : decode cX2_storm 50 = .ok (.bipush 59, 2) := dk_16 59 (dk_at dksX2_storm_2 4 rfl rfl)
theorem dX2_storm_52 : decode cX2_storm 52 = .ok (.iadd, 1) := dk_96 (dk_at dksX2_storm_2 6 rfl rfl)
theorem dX2_storm_53 : decode cX2_storm 53 = .ok (.iastore, 1) := dk_79 (dk_at dksX2_storm_2 7 rfl rfl)
theorem dX2_storm_54 : decode cX2_storm 54 = .ok (.iconst 0, 1) := dk_3 (dk_at dksX2_storm_2 8 rfl rfl)
theorem dX2_storm_55 : decode cX2_storm 55 = .ok (.istore_n 3, 1) := dk_62 (dk_at dksX2_storm_2 9 rfl rfl)
theorem dX2_storm_56 : decode cX2_storm 56 = .ok (.iload_n 3, 1) := dk_29 (dk_at dksX2_storm_2 10 rfl rfl)
theorem dX2_storm_57 : decode cX2_storm 57 = .ok (.iload_n 2, 1) := dk_28 (dk_at dksX2_storm_2 11 rfl rfl)
theorem dX2_storm_58 : decode cX2_storm 58 = .ok (.if_icmp .ge 47, 3) := dk_162 0 47 (dk_at dksX2_storm_2 12 rfl rfl)
theorem dX2_storm_61 : decode cX2_storm 61 = .ok (.aload_n 0, 1) := dk_42 (dk_at dksX2_storm_2 15 rfl rfl)
theorem dX2_storm_62 : decode cX2_storm 62 = .ok (.getfield 7, 3) := dk_180 0 7 (dk_at dksX2_storm_2 16 rfl rfl)
theorem dX2_storm_65 : decode cX2_storm 65 = .ok (.bipush 14, 2) := dk_16 14 (dk_at dksX2_storm_2 19 rfl rfl)
theorem dX2_storm_67 : decode cX2_storm 67 = .ok (.aload_n 0, 1) := dk_42 (dk_at dksX2_storm_2 21 rfl rfl)
theorem dX2_storm_68 : decode cX2_storm 68 = .ok (.getfield 7, 3) := dk_180 0 7 (dk_at dksX2_storm_3 0 rfl rfl)
theorem dX2_storm_71 : decode cX2_storm 71 = .ok (.iconst 2, 1) := dk_5 (dk_at dksX2_storm_3 3 rfl rfl)
theorem dX2_storm_72 : decode cX2_storm 72 = .ok (.iaload, 1) := dk_46 (dk_at dksX2_storm_3 4 rfl rfl)
theorem dX2_storm_73 : decode cX2_storm 73 = .ok (.bipush 10, 2) := dk_16 10 (dk_at dksX2_storm_3 5 rfl rfl)
theorem dX2_storm_75 : decode cX2_storm 75 = .ok (.irem, 1) := dk_112 (dk_at dksX2_storm_3 7 rfl rfl)
theorem dX2_storm_76 : decode cX2_storm 76 = .ok (.iastore, 1) := dk_79 (dk_at dksX2_storm_3 8 rfl rfl)
theorem dX2_storm_77 : decode cX2_storm 77 = .ok (.aload_n 0, 1) := dk_42 (dk_at dksX2_storm_3 9 rfl rfl)
theorem dX2_storm_78 : decode cX2_storm 78 = .ok (.invokevirtual 302, 3) := dk_182 1 46 (dk_at dksX2_storm_3 10 rfl rfl)
theorem dX2_storm_81 : decode cX2_storm 81 = .ok (.aload_n 0, 1) := dk_42 (dk_at dksX2_storm_3 13 rfl rfl)
theorem dX2_storm_82 : decode cX2_storm 82 = .ok (.aload_n 0, 1) := dk_42 (dk_at dksX2_storm_3 14 rfl rfl)
theorem dX2_storm_83 : decode cX2_storm 83 = .ok (.getfield 7, 3) := dk_180 0 7 (dk_at dksX2_storm_3 15 rfl rfl)
theorem dX2_storm_86 : decode cX2_storm 86 = .ok (.iconst 2, 1) := dk_5 (dk_at dksX2_storm_3 18 rfl rfl)
theorem dX2_storm_87 : decode cX2_storm 87 = .ok (.iaload, 1) := dk_46 (dk_at dksX2_storm_3 19 rfl rfl)
theorem dX2_storm_88 : decode cX2_storm 88 = .ok (.iconst 3, 1) := dk_6 (dk_at dksX2_storm_3 20 rfl rfl)
theorem dX2_storm_89 : decode cX2_storm 89 = .ok (.irem, 1) := dk_112 (dk_at dksX2_storm_3 21 rfl rfl)
theorem dX2_storm_90 : decode cX2_storm 90 = .ok (.iconst 1, 1) := dk_4 (dk_at dksX2_storm_3 22 rfl rfl)
theorem dX2_storm_91 : decode cX2_storm 91 = .ok (.isub, 1) := dk_100 (dk_at dksX2_storm_3 23 rfl rfl)
theorem dX2_storm_92 : decode cX2_storm 92 = .ok (.invokevirtual 332, 3) := dk_182 1 76 (dk_at dksX2_storm_4 0 rfl rfl)
theorem dX2_storm_95 : decode cX2_storm 95 = .ok (.aload_n 0, 1) := dk_42 (dk_at dksX2_storm_4 3 rfl rfl)
theorem dX2_storm_96 : decode cX2_storm 96 = .ok (.invokevirtual 302, 3) := dk_182 1 46 (dk_at dksX2_storm_4 4 rfl rfl)
theorem dX2_storm_99 : decode cX2_storm 99 = .ok (.iinc 3 1, 3) := dk_132 3 1 (dk_at dksX2_storm_4 7 rfl rfl)
theorem dX2_storm_102 : decode cX2_storm 102 = .ok (.goto (-46), 3) := dk_167 255 210 (dk_at dksX2_storm_4 10 rfl rfl)
theorem dX2_storm_105 : decode cX2_storm 105 = .ok (.aload_n 0, 1) := dk_42 (dk_at dksX2_storm_4 13 rfl rfl)
theorem dX2_storm_106 : decode cX2_storm 106 = .ok (.getfield 7, 3) := dk_180 0 7 (dk_at dksX2_storm_4 14 rfl rfl)
theorem dX2_storm_109 : decode cX2_storm 109 = .ok (.bipush 8, 2) := dk_16 8 (dk_at dksX2_storm_4 17 rfl rfl)
theorem dX2_storm_111 : decode cX2_storm 111 = .ok (.iaload, 1) := dk_46 (dk_at dksX2_storm_4 19 rfl rfl)
theorem dX2_storm_112 : decode cX2_storm 112 = .ok (.ireturn, 1) := dk_172 (dk_at dksX2_storm_4 20 rfl rfl)
abbrev cX2_jib : ByteArray := prog_19_method_88_code
def yX2_jib : MethodName := ⟨RX2, "jib", "(I)I"⟩
def dkwX2_jib_6 : List UInt8 := [16, 17, 46, 172, 42, 42, 180, 0, 7, 7, 46, 182, 1, 82, 172, 19, 1, 113, 172]
abbrev dktX2_jib_6 : List UInt8 := dkwX2_jib_6 ++ []
def dkwX2_jib_5 : List UInt8 := [180, 0, 7, 16, 16, 46, 172, 42, 182, 1, 91, 153, 0, 7, 4, 167, 0, 4, 3, 172, 42, 180, 0, 7]
abbrev dktX2_jib_5 : List UInt8 := dkwX2_jib_5 ++ dktX2_jib_6
def dkwX2_jib_4 : List UInt8 := [180, 0, 7, 16, 13, 46, 172, 42, 180, 0, 7, 16, 14, 46, 172, 42, 180, 0, 7, 16, 15, 46, 172, 42]
abbrev dktX2_jib_4 : List UInt8 := dkwX2_jib_4 ++ dktX2_jib_5
def dkwX2_jib_3 : List UInt8 := [42, 180, 0, 7, 16, 11, 46, 172, 42, 182, 1, 36, 172, 42, 180, 0, 7, 16, 12, 46, 172, 42]
abbrev dktX2_jib_3 : List UInt8 := dkwX2_jib_3 ++ dktX2_jib_4
def dkwX2_jib_2 : List UInt8 := [42, 180, 0, 7, 16, 8, 46, 172, 42, 180, 0, 7, 16, 9, 46, 172, 42, 180, 0, 7, 16, 10, 46, 172]
abbrev dktX2_jib_2 : List UInt8 := dkwX2_jib_2 ++ dktX2_jib_3
def dkwX2_jib_1 : List UInt8 := [170, 0, 0, 0, 0, 0, 176, 0, 0, 0, 0, 0, 0, 0, 12, 0, 0, 0, 67, 0, 0, 0, 75, 0, 0, 0, 83, 0, 0, 0, 91, 0, 0, 0, 99, 0, 0, 0, 104, 0, 0, 0, 112, 0, 0, 0, 120, 0, 0, 0, 128, 0, 0, 0, 136, 0, 0, 0, 144, 0, 0, 0, 157, 0, 0, 0, 165]
abbrev dktX2_jib_1 : List UInt8 := dkwX2_jib_1 ++ dktX2_jib_2
def dkwX2_jib_0 : List UInt8 := [27]
abbrev dktX2_jib_0 : List UInt8 := dkwX2_jib_0 ++ dktX2_jib_1
theorem dksX2_jib_0 : cX2_jib.data.toList.drop 0 = dktX2_jib_0 := by decide +kernel
theorem dksX2_jib_1 : cX2_jib.data.toList.drop 1 = dktX2_jib_1 := dk_seg dksX2_jib_0 1 rfl rfl
theorem dksX2_jib_2 : cX2_jib.data.toList.drop 68 = dktX2_jib_2 := dk_seg dksX2_jib_1 67 rfl rfl
theorem dksX2_jib_3 : cX2_jib.data.toList.drop 92 = dktX2_jib_3 := dk_seg dksX2_jib_2 24 rfl rfl
theorem dksX2_jib_4 : cX2_jib.data.toList.drop 114 = dktX2_jib_4 := dk_seg dksX2_jib_3 22 rfl rfl
theorem dksX2_jib_5 : cX2_jib.data.toList.drop 138 = dktX2_jib_5 := dk_seg dksX2_jib_4 24 rfl rfl
theorem dksX2_jib_6 : cX2_jib.data.toList.drop 162 = dktX2_jib_6 := dk_seg dksX2_jib_5 24 rfl rfl
theorem dX2_jib_0 : decode cX2_jib 0 = .ok (.iload_n 1, 1) := dk_27 (dk_at dksX2_jib_0 0 rfl rfl)
theorem dX2_jib_1 : decode cX2_jib 1 = .ok (.tableswitch 176 0 12 #[67, 75, 83, 91, 99, 104, 112, 120, 128, 136, 144, 157, 165], 67) := by decide +kernel
theorem dX2_jib_68 : decode cX2_jib 68 = .ok (.aload_n 0, 1) := dk_42 (dk_at dksX2_jib_2 0 rfl rfl)
theorem dX2_jib_69 : decode cX2_jib 69 = .ok (.getfield 7, 3) := dk_180 0 7 (dk_at dksX2_jib_2 1 rfl rfl)
theorem dX2_jib_72 : decode cX2_jib 72 = .ok (.bipush 8, 2) := dk_16 8 (dk_at dksX2_jib_2 4 rfl rfl)
theorem dX2_jib_74 : decode cX2_jib 74 = .ok (.iaload, 1) := dk_46 (dk_at dksX2_jib_2 6 rfl rfl)
theorem dX2_jib_75 : decode cX2_jib 75 = .ok (.ireturn, 1) := dk_172 (dk_at dksX2_jib_2 7 rfl rfl)
theorem dX2_jib_76 : decode cX2_jib 76 = .ok (.aload_n 0, 1) := dk_42 (dk_at dksX2_jib_2 8 rfl rfl)
theorem dX2_jib_77 : decode cX2_jib 77 = .ok (.getfield 7, 3) := dk_180 0 7 (dk_at dksX2_jib_2 9 rfl rfl)
theorem dX2_jib_80 : decode cX2_jib 80 = .ok (.bipush 9, 2) := dk_16 9 (dk_at dksX2_jib_2 12 rfl rfl)
theorem dX2_jib_82 : decode cX2_jib 82 = .ok (.iaload, 1) := dk_46 (dk_at dksX2_jib_2 14 rfl rfl)
theorem dX2_jib_83 : decode cX2_jib 83 = .ok (.ireturn, 1) := dk_172 (dk_at dksX2_jib_2 15 rfl rfl)
theorem dX2_jib_84 : decode cX2_jib 84 = .ok (.aload_n 0, 1) := dk_42 (dk_at dksX2_jib_2 16 rfl rfl)
theorem dX2_jib_85 : decode cX2_jib 85 = .ok (.getfield 7, 3) := dk_180 0 7 (dk_at dksX2_jib_2 17 rfl rfl)
theorem dX2_jib_88 : decode cX2_jib 88 = .ok (.bipush 10, 2) := dk_16 10 (dk_at dksX2_jib_2 20 rfl rfl)
theorem dX2_jib_90 : decode cX2_jib 90 = .ok (.iaload, 1) := dk_46 (dk_at dksX2_jib_2 22 rfl rfl)
theorem dX2_jib_91 : decode cX2_jib 91 = .ok (.ireturn, 1) := dk_172 (dk_at dksX2_jib_2 23 rfl rfl)
theorem dX2_jib_92 : decode cX2_jib 92 = .ok (.aload_n 0, 1) := dk_42 (dk_at dksX2_jib_3 0 rfl rfl)
theorem dX2_jib_93 : decode cX2_jib 93 = .ok (.getfield 7, 3) := dk_180 0 7 (dk_at dksX2_jib_3 1 rfl rfl)
theorem dX2_jib_96 : decode cX2_jib 96 = .ok (.bipush 11, 2) := dk_16 11 (dk_at dksX2_jib_3 4 rfl rfl)
theorem dX2_jib_98 : decode cX2_jib 98 = .ok (.iaload, 1) := dk_46 (dk_at dksX2_jib_3 6 rfl rfl)
theorem dX2_jib_99 : decode cX2_jib 99 = .ok (.ireturn, 1) := dk_172 (dk_at dksX2_jib_3 7 rfl rfl)
theorem dX2_jib_100 : decode cX2_jib 100 = .ok (.aload_n 0, 1) := dk_42 (dk_at dksX2_jib_3 8 rfl rfl)
theorem dX2_jib_101 : decode cX2_jib 101 = .ok (.invokevirtual 292, 3) := dk_182 1 36 (dk_at dksX2_jib_3 9 rfl rfl)
theorem dX2_jib_104 : decode cX2_jib 104 = .ok (.ireturn, 1) := dk_172 (dk_at dksX2_jib_3 12 rfl rfl)
theorem dX2_jib_105 : decode cX2_jib 105 = .ok (.aload_n 0, 1) := dk_42 (dk_at dksX2_jib_3 13 rfl rfl)
theorem dX2_jib_106 : decode cX2_jib 106 = .ok (.getfield 7, 3) := dk_180 0 7 (dk_at dksX2_jib_3 14 rfl rfl)
theorem dX2_jib_109 : decode cX2_jib 109 = .ok (.bipush 12, 2) := dk_16 12 (dk_at dksX2_jib_3 17 rfl rfl)
theorem dX2_jib_111 : decode cX2_jib 111 = .ok (.iaload, 1) := dk_46 (dk_at dksX2_jib_3 19 rfl rfl)
theorem dX2_jib_112 : decode cX2_jib 112 = .ok (.ireturn, 1) := dk_172 (dk_at dksX2_jib_3 20 rfl rfl)
theorem dX2_jib_113 : decode cX2_jib 113 = .ok (.aload_n 0, 1) := dk_42 (dk_at dksX2_jib_3 21 rfl rfl)
theorem dX2_jib_114 : decode cX2_jib 114 = .ok (.getfield 7, 3) := dk_180 0 7 (dk_at dksX2_jib_4 0 rfl rfl)
theorem dX2_jib_117 : decode cX2_jib 117 = .ok (.bipush 13, 2) := dk_16 13 (dk_at dksX2_jib_4 3 rfl rfl)
theorem dX2_jib_119 : decode cX2_jib 119 = .ok (.iaload, 1) := dk_46 (dk_at dksX2_jib_4 5 rfl rfl)
theorem dX2_jib_120 : decode cX2_jib 120 = .ok (.ireturn, 1) := dk_172 (dk_at dksX2_jib_4 6 rfl rfl)
theorem dX2_jib_121 : decode cX2_jib 121 = .ok (.aload_n 0, 1) := dk_42 (dk_at dksX2_jib_4 7 rfl rfl)
theorem dX2_jib_122 : decode cX2_jib 122 = .ok (.getfield 7, 3) := dk_180 0 7 (dk_at dksX2_jib_4 8 rfl rfl)
theorem dX2_jib_125 : decode cX2_jib 125 = .ok (.bipush 14, 2) := dk_16 14 (dk_at dksX2_jib_4 11 rfl rfl)
theorem dX2_jib_127 : decode cX2_jib 127 = .ok (.iaload, 1) := dk_46 (dk_at dksX2_jib_4 13 rfl rfl)
theorem dX2_jib_128 : decode cX2_jib 128 = .ok (.ireturn, 1) := dk_172 (dk_at dksX2_jib_4 14 rfl rfl)
theorem dX2_jib_129 : decode cX2_jib 129 = .ok (.aload_n 0, 1) := dk_42 (dk_at dksX2_jib_4 15 rfl rfl)
theorem dX2_jib_130 : decode cX2_jib 130 = .ok (.getfield 7, 3) := dk_180 0 7 (dk_at dksX2_jib_4 16 rfl rfl)
theorem dX2_jib_133 : decode cX2_jib 133 = .ok (.bipush 15, 2) := dk_16 15 (dk_at dksX2_jib_4 19 rfl rfl)
theorem dX2_jib_135 : decode cX2_jib 135 = .ok (.iaload, 1) := dk_46 (dk_at dksX2_jib_4 21 rfl rfl)
theorem dX2_jib_136 : decode cX2_jib 136 = .ok (.ireturn, 1) := dk_172 (dk_at dksX2_jib_4 22 rfl rfl)
theorem dX2_jib_137 : decode cX2_jib 137 = .ok (.aload_n 0, 1) := dk_42 (dk_at dksX2_jib_4 23 rfl rfl)
theorem dX2_jib_138 : decode cX2_jib 138 = .ok (.getfield 7, 3) := dk_180 0 7 (dk_at dksX2_jib_5 0 rfl rfl)
theorem dX2_jib_141 : decode cX2_jib 141 = .ok (.bipush 16, 2) := dk_16 16 (dk_at dksX2_jib_5 3 rfl rfl)
theorem dX2_jib_143 : decode cX2_jib 143 = .ok (.iaload, 1) := dk_46 (dk_at dksX2_jib_5 5 rfl rfl)
theorem dX2_jib_144 : decode cX2_jib 144 = .ok (.ireturn, 1) := dk_172 (dk_at dksX2_jib_5 6 rfl rfl)
theorem dX2_jib_145 : decode cX2_jib 145 = .ok (.aload_n 0, 1) := dk_42 (dk_at dksX2_jib_5 7 rfl rfl)
theorem dX2_jib_146 : decode cX2_jib 146 = .ok (.invokevirtual 347, 3) := dk_182 1 91 (dk_at dksX2_jib_5 8 rfl rfl)
theorem dX2_jib_149 : decode cX2_jib 149 = .ok (.ifCond .eq 7, 3) := dk_153 0 7 (dk_at dksX2_jib_5 11 rfl rfl)
theorem dX2_jib_152 : decode cX2_jib 152 = .ok (.iconst 1, 1) := dk_4 (dk_at dksX2_jib_5 14 rfl rfl)
theorem dX2_jib_153 : decode cX2_jib 153 = .ok (.goto 4, 3) := dk_167 0 4 (dk_at dksX2_jib_5 15 rfl rfl)
theorem dX2_jib_156 : decode cX2_jib 156 = .ok (.iconst 0, 1) := dk_3 (dk_at dksX2_jib_5 18 rfl rfl)
theorem dX2_jib_157 : decode cX2_jib 157 = .ok (.ireturn, 1) := dk_172 (dk_at dksX2_jib_5 19 rfl rfl)
theorem dX2_jib_158 : decode cX2_jib 158 = .ok (.aload_n 0, 1) := dk_42 (dk_at dksX2_jib_5 20 rfl rfl)
theorem dX2_jib_159 : decode cX2_jib 159 = .ok (.getfield 7, 3) := dk_180 0 7 (dk_at dksX2_jib_5 21 rfl rfl)
theorem dX2_jib_162 : decode cX2_jib 162 = .ok (.bipush 17, 2) := dk_16 17 (dk_at dksX2_jib_6 0 rfl rfl)
theorem dX2_jib_164 : decode cX2_jib 164 = .ok (.iaload, 1) := dk_46 (dk_at dksX2_jib_6 2 rfl rfl)
theorem dX2_jib_165 : decode cX2_jib 165 = .ok (.ireturn, 1) := dk_172 (dk_at dksX2_jib_6 3 rfl rfl)
theorem dX2_jib_166 : decode cX2_jib 166 = .ok (.aload_n 0, 1) := dk_42 (dk_at dksX2_jib_6 4 rfl rfl)
theorem dX2_jib_167 : decode cX2_jib 167 = .ok (.aload_n 0, 1) := dk_42 (dk_at dksX2_jib_6 5 rfl rfl)
theorem dX2_jib_168 : decode cX2_jib 168 = .ok (.getfield 7, 3) := dk_180 0 7 (dk_at dksX2_jib_6 6 rfl rfl)
theorem dX2_jib_171 : decode cX2_jib 171 = .ok (.iconst 4, 1) := dk_7 (dk_at dksX2_jib_6 9 rfl rfl)
theorem dX2_jib_172 : decode cX2_jib 172 = .ok (.iaload, 1) := dk_46 (dk_at dksX2_jib_6 10 rfl rfl)
theorem dX2_jib_173 : decode cX2_jib 173 = .ok (.invokevirtual 338, 3) := dk_182 1 82 (dk_at dksX2_jib_6 11 rfl rfl)
theorem dX2_jib_176 : decode cX2_jib 176 = .ok (.ireturn, 1) := dk_172 (dk_at dksX2_jib_6 14 rfl rfl)
theorem dX2_jib_177 : decode cX2_jib 177 = .ok (.ldc_w 369, 3) := dk_19 1 113 (dk_at dksX2_jib_6 15 rfl rfl)
theorem dX2_jib_180 : decode cX2_jib 180 = .ok (.ireturn, 1) := dk_172 (dk_at dksX2_jib_6 18 rfl rfl)
abbrev cX2_ofOrder : ByteArray := prog_19_method_89_code
def yX2_ofOrder : MethodName := ⟨RX2, "ofOrder", "(II)I"⟩
def dkwX2_ofOrder_2 : List UInt8 := [182, 1, 117, 167, 0, 9, 42, 27, 28, 182, 1, 39, 172]
abbrev dktX2_ofOrder_2 : List UInt8 := dkwX2_ofOrder_2 ++ []
def dkwX2_ofOrder_1 : List UInt8 := [160, 0, 11, 42, 27, 182, 1, 114, 167, 0, 28, 28, 16, 7, 160, 0, 16, 42, 42, 27, 4, 182, 1, 39]
abbrev dktX2_ofOrder_1 : List UInt8 := dkwX2_ofOrder_1 ++ dktX2_ofOrder_2
def dkwX2_ofOrder_0 : List UInt8 := [42, 27, 182, 1, 88, 153, 0, 13, 28, 3, 16, 7, 184, 0, 71, 154, 0, 5, 2, 172, 28, 16, 6]
abbrev dktX2_ofOrder_0 : List UInt8 := dkwX2_ofOrder_0 ++ dktX2_ofOrder_1
theorem dksX2_ofOrder_0 : cX2_ofOrder.data.toList.drop 0 = dktX2_ofOrder_0 := by decide +kernel
theorem dksX2_ofOrder_1 : cX2_ofOrder.data.toList.drop 23 = dktX2_ofOrder_1 := dk_seg dksX2_ofOrder_0 23 rfl rfl
theorem dksX2_ofOrder_2 : cX2_ofOrder.data.toList.drop 47 = dktX2_ofOrder_2 := dk_seg dksX2_ofOrder_1 24 rfl rfl
theorem dX2_ofOrder_0 : decode cX2_ofOrder 0 = .ok (.aload_n 0, 1) := dk_42 (dk_at dksX2_ofOrder_0 0 rfl rfl)
theorem dX2_ofOrder_1 : decode cX2_ofOrder 1 = .ok (.iload_n 1, 1) := dk_27 (dk_at dksX2_ofOrder_0 1 rfl rfl)
theorem dX2_ofOrder_2 : decode cX2_ofOrder 2 = .ok (.invokevirtual 344, 3) := dk_182 1 88 (dk_at dksX2_ofOrder_0 2 rfl rfl)
theorem dX2_ofOrder_5 : decode cX2_ofOrder 5 = .ok (.ifCond .eq 13, 3) := dk_153 0 13 (dk_at dksX2_ofOrder_0 5 rfl rfl)
theorem dX2_ofOrder_8 : decode cX2_ofOrder 8 = .ok (.iload_n 2, 1) := dk_28 (dk_at dksX2_ofOrder_0 8 rfl rfl)
theorem dX2_ofOrder_9 : decode cX2_ofOrder 9 = .ok (.iconst 0, 1) := dk_3 (dk_at dksX2_ofOrder_0 9 rfl rfl)
theorem dX2_ofOrder_10 : decode cX2_ofOrder 10 = .ok (.bipush 7, 2) := dk_16 7 (dk_at dksX2_ofOrder_0 10 rfl rfl)
theorem dX2_ofOrder_12 : decode cX2_ofOrder 12 = .ok (.invokestatic 71, 3) := dk_184 0 71 (dk_at dksX2_ofOrder_0 12 rfl rfl)
theorem dX2_ofOrder_15 : decode cX2_ofOrder 15 = .ok (.ifCond .ne 5, 3) := dk_154 0 5 (dk_at dksX2_ofOrder_0 15 rfl rfl)
theorem dX2_ofOrder_18 : decode cX2_ofOrder 18 = .ok (.iconst (-1), 1) := dk_2 (dk_at dksX2_ofOrder_0 18 rfl rfl)
theorem dX2_ofOrder_19 : decode cX2_ofOrder 19 = .ok (.ireturn, 1) := dk_172 (dk_at dksX2_ofOrder_0 19 rfl rfl)
theorem dX2_ofOrder_20 : decode cX2_ofOrder 20 = .ok (.iload_n 2, 1) := dk_28 (dk_at dksX2_ofOrder_0 20 rfl rfl)
theorem dX2_ofOrder_21 : decode cX2_ofOrder 21 = .ok (.bipush 6, 2) := dk_16 6 (dk_at dksX2_ofOrder_0 21 rfl rfl)
theorem dX2_ofOrder_23 : decode cX2_ofOrder 23 = .ok (.if_icmp .ne 11, 3) := dk_160 0 11 (dk_at dksX2_ofOrder_1 0 rfl rfl)
theorem dX2_ofOrder_26 : decode cX2_ofOrder 26 = .ok (.aload_n 0, 1) := dk_42 (dk_at dksX2_ofOrder_1 3 rfl rfl)
theorem dX2_ofOrder_27 : decode cX2_ofOrder 27 = .ok (.iload_n 1, 1) := dk_27 (dk_at dksX2_ofOrder_1 4 rfl rfl)
theorem dX2_ofOrder_28 : decode cX2_ofOrder 28 = .ok (.invokevirtual 370, 3) := dk_182 1 114 (dk_at dksX2_ofOrder_1 5 rfl rfl)
theorem dX2_ofOrder_31 : decode cX2_ofOrder 31 = .ok (.goto 28, 3) := dk_167 0 28 (dk_at dksX2_ofOrder_1 8 rfl rfl)
theorem dX2_ofOrder_34 : decode cX2_ofOrder 34 = .ok (.iload_n 2, 1) := dk_28 (dk_at dksX2_ofOrder_1 11 rfl rfl)
theorem dX2_ofOrder_35 : decode cX2_ofOrder 35 = .ok (.bipush 7, 2) := dk_16 7 (dk_at dksX2_ofOrder_1 12 rfl rfl)
theorem dX2_ofOrder_37 : decode cX2_ofOrder 37 = .ok (.if_icmp .ne 16, 3) := dk_160 0 16 (dk_at dksX2_ofOrder_1 14 rfl rfl)
theorem dX2_ofOrder_40 : decode cX2_ofOrder 40 = .ok (.aload_n 0, 1) := dk_42 (dk_at dksX2_ofOrder_1 17 rfl rfl)
theorem dX2_ofOrder_41 : decode cX2_ofOrder 41 = .ok (.aload_n 0, 1) := dk_42 (dk_at dksX2_ofOrder_1 18 rfl rfl)
theorem dX2_ofOrder_42 : decode cX2_ofOrder 42 = .ok (.iload_n 1, 1) := dk_27 (dk_at dksX2_ofOrder_1 19 rfl rfl)
theorem dX2_ofOrder_43 : decode cX2_ofOrder 43 = .ok (.iconst 1, 1) := dk_4 (dk_at dksX2_ofOrder_1 20 rfl rfl)
theorem dX2_ofOrder_44 : decode cX2_ofOrder 44 = .ok (.invokevirtual 295, 3) := dk_182 1 39 (dk_at dksX2_ofOrder_1 21 rfl rfl)
theorem dX2_ofOrder_47 : decode cX2_ofOrder 47 = .ok (.invokevirtual 373, 3) := dk_182 1 117 (dk_at dksX2_ofOrder_2 0 rfl rfl)
theorem dX2_ofOrder_50 : decode cX2_ofOrder 50 = .ok (.goto 9, 3) := dk_167 0 9 (dk_at dksX2_ofOrder_2 3 rfl rfl)
theorem dX2_ofOrder_53 : decode cX2_ofOrder 53 = .ok (.aload_n 0, 1) := dk_42 (dk_at dksX2_ofOrder_2 6 rfl rfl)
theorem dX2_ofOrder_54 : decode cX2_ofOrder 54 = .ok (.iload_n 1, 1) := dk_27 (dk_at dksX2_ofOrder_2 7 rfl rfl)
theorem dX2_ofOrder_55 : decode cX2_ofOrder 55 = .ok (.iload_n 2, 1) := dk_28 (dk_at dksX2_ofOrder_2 8 rfl rfl)
theorem dX2_ofOrder_56 : decode cX2_ofOrder 56 = .ok (.invokevirtual 295, 3) := dk_182 1 39 (dk_at dksX2_ofOrder_2 9 rfl rfl)
theorem dX2_ofOrder_59 : decode cX2_ofOrder 59 = .ok (.ireturn, 1) := dk_172 (dk_at dksX2_ofOrder_2 12 rfl rfl)
abbrev cX2_lastsOf : ByteArray := prog_19_method_67_code
def yX2_lastsOf : MethodName := ⟨RX2, "lastsOf", "(I)I"⟩
def dkwX2_lastsOf_2 : List UInt8 := [182, 1, 39, 16, 10, 108, 4, 96, 4, 16, 99, 182, 1, 42, 172]
abbrev dktX2_lastsOf_2 : List UInt8 := dkwX2_lastsOf_2 ++ []
def dkwX2_lastsOf_1 : List UInt8 := [182, 1, 39, 79, 42, 180, 0, 32, 16, 7, 42, 27, 4, 182, 1, 39, 79, 42, 7, 42, 27, 4]
abbrev dktX2_lastsOf_1 : List UInt8 := dkwX2_lastsOf_1 ++ dktX2_lastsOf_2
def dkwX2_lastsOf_0 : List UInt8 := [42, 180, 0, 32, 8, 42, 180, 0, 7, 16, 12, 46, 79, 42, 180, 0, 32, 16, 6, 42, 27, 3]
abbrev dktX2_lastsOf_0 : List UInt8 := dkwX2_lastsOf_0 ++ dktX2_lastsOf_1
theorem dksX2_lastsOf_0 : cX2_lastsOf.data.toList.drop 0 = dktX2_lastsOf_0 := by decide +kernel
theorem dksX2_lastsOf_1 : cX2_lastsOf.data.toList.drop 22 = dktX2_lastsOf_1 := dk_seg dksX2_lastsOf_0 22 rfl rfl
theorem dksX2_lastsOf_2 : cX2_lastsOf.data.toList.drop 44 = dktX2_lastsOf_2 := dk_seg dksX2_lastsOf_1 22 rfl rfl
theorem dX2_lastsOf_0 : decode cX2_lastsOf 0 = .ok (.aload_n 0, 1) := dk_42 (dk_at dksX2_lastsOf_0 0 rfl rfl)
theorem dX2_lastsOf_1 : decode cX2_lastsOf 1 = .ok (.getfield 32, 3) := dk_180 0 32 (dk_at dksX2_lastsOf_0 1 rfl rfl)
theorem dX2_lastsOf_4 : decode cX2_lastsOf 4 = .ok (.iconst 5, 1) := dk_8 (dk_at dksX2_lastsOf_0 4 rfl rfl)
theorem dX2_lastsOf_5 : decode cX2_lastsOf 5 = .ok (.aload_n 0, 1) := dk_42 (dk_at dksX2_lastsOf_0 5 rfl rfl)
theorem dX2_lastsOf_6 : decode cX2_lastsOf 6 = .ok (.getfield 7, 3) := dk_180 0 7 (dk_at dksX2_lastsOf_0 6 rfl rfl)
theorem dX2_lastsOf_9 : decode cX2_lastsOf 9 = .ok (.bipush 12, 2) := dk_16 12 (dk_at dksX2_lastsOf_0 9 rfl rfl)
theorem dX2_lastsOf_11 : decode cX2_lastsOf 11 = .ok (.iaload, 1) := dk_46 (dk_at dksX2_lastsOf_0 11 rfl rfl)
theorem dX2_lastsOf_12 : decode cX2_lastsOf 12 = .ok (.iastore, 1) := dk_79 (dk_at dksX2_lastsOf_0 12 rfl rfl)
theorem dX2_lastsOf_13 : decode cX2_lastsOf 13 = .ok (.aload_n 0, 1) := dk_42 (dk_at dksX2_lastsOf_0 13 rfl rfl)
theorem dX2_lastsOf_14 : decode cX2_lastsOf 14 = .ok (.getfield 32, 3) := dk_180 0 32 (dk_at dksX2_lastsOf_0 14 rfl rfl)
theorem dX2_lastsOf_17 : decode cX2_lastsOf 17 = .ok (.bipush 6, 2) := dk_16 6 (dk_at dksX2_lastsOf_0 17 rfl rfl)
theorem dX2_lastsOf_19 : decode cX2_lastsOf 19 = .ok (.aload_n 0, 1) := dk_42 (dk_at dksX2_lastsOf_0 19 rfl rfl)
theorem dX2_lastsOf_20 : decode cX2_lastsOf 20 = .ok (.iload_n 1, 1) := dk_27 (dk_at dksX2_lastsOf_0 20 rfl rfl)
theorem dX2_lastsOf_21 : decode cX2_lastsOf 21 = .ok (.iconst 0, 1) := dk_3 (dk_at dksX2_lastsOf_0 21 rfl rfl)
theorem dX2_lastsOf_22 : decode cX2_lastsOf 22 = .ok (.invokevirtual 295, 3) := dk_182 1 39 (dk_at dksX2_lastsOf_1 0 rfl rfl)
theorem dX2_lastsOf_25 : decode cX2_lastsOf 25 = .ok (.iastore, 1) := dk_79 (dk_at dksX2_lastsOf_1 3 rfl rfl)
theorem dX2_lastsOf_26 : decode cX2_lastsOf 26 = .ok (.aload_n 0, 1) := dk_42 (dk_at dksX2_lastsOf_1 4 rfl rfl)
theorem dX2_lastsOf_27 : decode cX2_lastsOf 27 = .ok (.getfield 32, 3) := dk_180 0 32 (dk_at dksX2_lastsOf_1 5 rfl rfl)
theorem dX2_lastsOf_30 : decode cX2_lastsOf 30 = .ok (.bipush 7, 2) := dk_16 7 (dk_at dksX2_lastsOf_1 8 rfl rfl)
theorem dX2_lastsOf_32 : decode cX2_lastsOf 32 = .ok (.aload_n 0, 1) := dk_42 (dk_at dksX2_lastsOf_1 10 rfl rfl)
theorem dX2_lastsOf_33 : decode cX2_lastsOf 33 = .ok (.iload_n 1, 1) := dk_27 (dk_at dksX2_lastsOf_1 11 rfl rfl)
theorem dX2_lastsOf_34 : decode cX2_lastsOf 34 = .ok (.iconst 1, 1) := dk_4 (dk_at dksX2_lastsOf_1 12 rfl rfl)
theorem dX2_lastsOf_35 : decode cX2_lastsOf 35 = .ok (.invokevirtual 295, 3) := dk_182 1 39 (dk_at dksX2_lastsOf_1 13 rfl rfl)
theorem dX2_lastsOf_38 : decode cX2_lastsOf 38 = .ok (.iastore, 1) := dk_79 (dk_at dksX2_lastsOf_1 16 rfl rfl)
theorem dX2_lastsOf_39 : decode cX2_lastsOf 39 = .ok (.aload_n 0, 1) := dk_42 (dk_at dksX2_lastsOf_1 17 rfl rfl)
theorem dX2_lastsOf_40 : decode cX2_lastsOf 40 = .ok (.iconst 4, 1) := dk_7 (dk_at dksX2_lastsOf_1 18 rfl rfl)
theorem dX2_lastsOf_41 : decode cX2_lastsOf 41 = .ok (.aload_n 0, 1) := dk_42 (dk_at dksX2_lastsOf_1 19 rfl rfl)
theorem dX2_lastsOf_42 : decode cX2_lastsOf 42 = .ok (.iload_n 1, 1) := dk_27 (dk_at dksX2_lastsOf_1 20 rfl rfl)
theorem dX2_lastsOf_43 : decode cX2_lastsOf 43 = .ok (.iconst 1, 1) := dk_4 (dk_at dksX2_lastsOf_1 21 rfl rfl)
theorem dX2_lastsOf_44 : decode cX2_lastsOf 44 = .ok (.invokevirtual 295, 3) := dk_182 1 39 (dk_at dksX2_lastsOf_2 0 rfl rfl)
theorem dX2_lastsOf_47 : decode cX2_lastsOf 47 = .ok (.bipush 10, 2) := dk_16 10 (dk_at dksX2_lastsOf_2 3 rfl rfl)
theorem dX2_lastsOf_49 : decode cX2_lastsOf 49 = .ok (.idiv, 1) := dk_108 (dk_at dksX2_lastsOf_2 5 rfl rfl)
theorem dX2_lastsOf_50 : decode cX2_lastsOf 50 = .ok (.iconst 1, 1) := dk_4 (dk_at dksX2_lastsOf_2 6 rfl rfl)
theorem dX2_lastsOf_51 : decode cX2_lastsOf 51 = .ok (.iadd, 1) := dk_96 (dk_at dksX2_lastsOf_2 7 rfl rfl)
theorem dX2_lastsOf_52 : decode cX2_lastsOf 52 = .ok (.iconst 1, 1) := dk_4 (dk_at dksX2_lastsOf_2 8 rfl rfl)
theorem dX2_lastsOf_53 : decode cX2_lastsOf 53 = .ok (.bipush 99, 2) := dk_16 99 (dk_at dksX2_lastsOf_2 9 rfl rfl)
theorem dX2_lastsOf_55 : decode cX2_lastsOf 55 = .ok (.invokevirtual 298, 3) := dk_182 1 42 (dk_at dksX2_lastsOf_2 11 rfl rfl)
theorem dX2_lastsOf_58 : decode cX2_lastsOf 58 = .ok (.ireturn, 1) := dk_172 (dk_at dksX2_lastsOf_2 14 rfl rfl)
abbrev cX2_holdsAt : ByteArray := prog_19_method_68_code
def yX2_holdsAt : MethodName := ⟨RX2, "holdsAt", "(I)I"⟩
def dkwX2_holdsAt_0 : List UInt8 := [42, 180, 0, 32, 16, 7, 27, 79, 42, 6, 16, 60, 27, 100, 3, 16, 99, 182, 1, 42, 172]
abbrev dktX2_holdsAt_0 : List UInt8 := dkwX2_holdsAt_0 ++ []
theorem dksX2_holdsAt_0 : cX2_holdsAt.data.toList.drop 0 = dktX2_holdsAt_0 := by decide +kernel
theorem dX2_holdsAt_0 : decode cX2_holdsAt 0 = .ok (.aload_n 0, 1) := dk_42 (dk_at dksX2_holdsAt_0 0 rfl rfl)
theorem dX2_holdsAt_1 : decode cX2_holdsAt 1 = .ok (.getfield 32, 3) := dk_180 0 32 (dk_at dksX2_holdsAt_0 1 rfl rfl)
theorem dX2_holdsAt_4 : decode cX2_holdsAt 4 = .ok (.bipush 7, 2) := dk_16 7 (dk_at dksX2_holdsAt_0 4 rfl rfl)
theorem dX2_holdsAt_6 : decode cX2_holdsAt 6 = .ok (.iload_n 1, 1) := dk_27 (dk_at dksX2_holdsAt_0 6 rfl rfl)
theorem dX2_holdsAt_7 : decode cX2_holdsAt 7 = .ok (.iastore, 1) := dk_79 (dk_at dksX2_holdsAt_0 7 rfl rfl)
theorem dX2_holdsAt_8 : decode cX2_holdsAt 8 = .ok (.aload_n 0, 1) := dk_42 (dk_at dksX2_holdsAt_0 8 rfl rfl)
theorem dX2_holdsAt_9 : decode cX2_holdsAt 9 = .ok (.iconst 3, 1) := dk_6 (dk_at dksX2_holdsAt_0 9 rfl rfl)
theorem dX2_holdsAt_10 : decode cX2_holdsAt 10 = .ok (.bipush 60, 2) := dk_16 60 (dk_at dksX2_holdsAt_0 10 rfl rfl)
theorem dX2_holdsAt_12 : decode cX2_holdsAt 12 = .ok (.iload_n 1, 1) := dk_27 (dk_at dksX2_holdsAt_0 12 rfl rfl)
theorem dX2_holdsAt_13 : decode cX2_holdsAt 13 = .ok (.isub, 1) := dk_100 (dk_at dksX2_holdsAt_0 13 rfl rfl)
theorem dX2_holdsAt_14 : decode cX2_holdsAt 14 = .ok (.iconst 0, 1) := dk_3 (dk_at dksX2_holdsAt_0 14 rfl rfl)
theorem dX2_holdsAt_15 : decode cX2_holdsAt 15 = .ok (.bipush 99, 2) := dk_16 99 (dk_at dksX2_holdsAt_0 15 rfl rfl)
theorem dX2_holdsAt_17 : decode cX2_holdsAt 17 = .ok (.invokevirtual 298, 3) := dk_182 1 42 (dk_at dksX2_holdsAt_0 17 rfl rfl)
theorem dX2_holdsAt_20 : decode cX2_holdsAt 20 = .ok (.ireturn, 1) := dk_172 (dk_at dksX2_holdsAt_0 20 rfl rfl)
abbrev cX2_ago : ByteArray := prog_19_method_91_code
def yX2_ago : MethodName := ⟨RX2, "ago", "(II)I"⟩
def dkwX2_ago_1 : List UInt8 := [180, 0, 7, 16, 16, 46, 27, 100, 28, 182, 1, 13, 167, 0, 6, 19, 1, 113, 172]
abbrev dktX2_ago_1 : List UInt8 := dkwX2_ago_1 ++ []
def dkwX2_ago_0 : List UInt8 := [27, 4, 42, 182, 1, 120, 184, 0, 71, 153, 0, 29, 28, 3, 8, 184, 0, 71, 153, 0, 20, 42, 42]
abbrev dktX2_ago_0 : List UInt8 := dkwX2_ago_0 ++ dktX2_ago_1
theorem dksX2_ago_0 : cX2_ago.data.toList.drop 0 = dktX2_ago_0 := by decide +kernel
theorem dksX2_ago_1 : cX2_ago.data.toList.drop 23 = dktX2_ago_1 := dk_seg dksX2_ago_0 23 rfl rfl
theorem dX2_ago_0 : decode cX2_ago 0 = .ok (.iload_n 1, 1) := dk_27 (dk_at dksX2_ago_0 0 rfl rfl)
theorem dX2_ago_1 : decode cX2_ago 1 = .ok (.iconst 1, 1) := dk_4 (dk_at dksX2_ago_0 1 rfl rfl)
theorem dX2_ago_2 : decode cX2_ago 2 = .ok (.aload_n 0, 1) := dk_42 (dk_at dksX2_ago_0 2 rfl rfl)
theorem dX2_ago_3 : decode cX2_ago 3 = .ok (.invokevirtual 376, 3) := dk_182 1 120 (dk_at dksX2_ago_0 3 rfl rfl)
theorem dX2_ago_6 : decode cX2_ago 6 = .ok (.invokestatic 71, 3) := dk_184 0 71 (dk_at dksX2_ago_0 6 rfl rfl)
theorem dX2_ago_9 : decode cX2_ago 9 = .ok (.ifCond .eq 29, 3) := dk_153 0 29 (dk_at dksX2_ago_0 9 rfl rfl)
theorem dX2_ago_12 : decode cX2_ago 12 = .ok (.iload_n 2, 1) := dk_28 (dk_at dksX2_ago_0 12 rfl rfl)
theorem dX2_ago_13 : decode cX2_ago 13 = .ok (.iconst 0, 1) := dk_3 (dk_at dksX2_ago_0 13 rfl rfl)
theorem dX2_ago_14 : decode cX2_ago 14 = .ok (.iconst 5, 1) := dk_8 (dk_at dksX2_ago_0 14 rfl rfl)
theorem dX2_ago_15 : decode cX2_ago 15 = .ok (.invokestatic 71, 3) := dk_184 0 71 (dk_at dksX2_ago_0 15 rfl rfl)
theorem dX2_ago_18 : decode cX2_ago 18 = .ok (.ifCond .eq 20, 3) := dk_153 0 20 (dk_at dksX2_ago_0 18 rfl rfl)
theorem dX2_ago_21 : decode cX2_ago 21 = .ok (.aload_n 0, 1) := dk_42 (dk_at dksX2_ago_0 21 rfl rfl)
theorem dX2_ago_22 : decode cX2_ago 22 = .ok (.aload_n 0, 1) := dk_42 (dk_at dksX2_ago_0 22 rfl rfl)
theorem dX2_ago_23 : decode cX2_ago 23 = .ok (.getfield 7, 3) := dk_180 0 7 (dk_at dksX2_ago_1 0 rfl rfl)
theorem dX2_ago_26 : decode cX2_ago 26 = .ok (.bipush 16, 2) := dk_16 16 (dk_at dksX2_ago_1 3 rfl rfl)
theorem dX2_ago_28 : decode cX2_ago 28 = .ok (.iaload, 1) := dk_46 (dk_at dksX2_ago_1 5 rfl rfl)
theorem dX2_ago_29 : decode cX2_ago 29 = .ok (.iload_n 1, 1) := dk_27 (dk_at dksX2_ago_1 6 rfl rfl)
theorem dX2_ago_30 : decode cX2_ago 30 = .ok (.isub, 1) := dk_100 (dk_at dksX2_ago_1 7 rfl rfl)
theorem dX2_ago_31 : decode cX2_ago 31 = .ok (.iload_n 2, 1) := dk_28 (dk_at dksX2_ago_1 8 rfl rfl)
theorem dX2_ago_32 : decode cX2_ago 32 = .ok (.invokevirtual 269, 3) := dk_182 1 13 (dk_at dksX2_ago_1 9 rfl rfl)
theorem dX2_ago_35 : decode cX2_ago 35 = .ok (.goto 6, 3) := dk_167 0 6 (dk_at dksX2_ago_1 12 rfl rfl)
theorem dX2_ago_38 : decode cX2_ago 38 = .ok (.ldc_w 369, 3) := dk_19 1 113 (dk_at dksX2_ago_1 15 rfl rfl)
theorem dX2_ago_41 : decode cX2_ago 41 = .ok (.ireturn, 1) := dk_172 (dk_at dksX2_ago_1 18 rfl rfl)
abbrev cX2_held : ByteArray := prog_19_method_90_code
def yX2_held : MethodName := ⟨RX2, "held", "()I"⟩
def dkwX2_held_1 : List UInt8 := [172]
abbrev dktX2_held_1 : List UInt8 := dkwX2_held_1 ++ []
def dkwX2_held_0 : List UInt8 := [42, 180, 0, 7, 16, 16, 46, 16, 60, 162, 0, 13, 42, 180, 0, 7, 16, 16, 46, 167, 0, 5, 16, 60]
abbrev dktX2_held_0 : List UInt8 := dkwX2_held_0 ++ dktX2_held_1
theorem dksX2_held_0 : cX2_held.data.toList.drop 0 = dktX2_held_0 := by decide +kernel
theorem dksX2_held_1 : cX2_held.data.toList.drop 24 = dktX2_held_1 := dk_seg dksX2_held_0 24 rfl rfl
theorem dX2_held_0 : decode cX2_held 0 = .ok (.aload_n 0, 1) := dk_42 (dk_at dksX2_held_0 0 rfl rfl)
theorem dX2_held_1 : decode cX2_held 1 = .ok (.getfield 7, 3) := dk_180 0 7 (dk_at dksX2_held_0 1 rfl rfl)
theorem dX2_held_4 : decode cX2_held 4 = .ok (.bipush 16, 2) := dk_16 16 (dk_at dksX2_held_0 4 rfl rfl)
theorem dX2_held_6 : decode cX2_held 6 = .ok (.iaload, 1) := dk_46 (dk_at dksX2_held_0 6 rfl rfl)
theorem dX2_held_7 : decode cX2_held 7 = .ok (.bipush 60, 2) := dk_16 60 (dk_at dksX2_held_0 7 rfl rfl)
theorem dX2_held_9 : decode cX2_held 9 = .ok (.if_icmp .ge 13, 3) := dk_162 0 13 (dk_at dksX2_held_0 9 rfl rfl)
theorem dX2_held_12 : decode cX2_held 12 = .ok (.aload_n 0, 1) := dk_42 (dk_at dksX2_held_0 12 rfl rfl)
theorem dX2_held_13 : decode cX2_held 13 = .ok (.getfield 7, 3) := dk_180 0 7 (dk_at dksX2_held_0 13 rfl rfl)
theorem dX2_held_16 : decode cX2_held 16 = .ok (.bipush 16, 2) := dk_16 16 (dk_at dksX2_held_0 16 rfl rfl)
theorem dX2_held_18 : decode cX2_held 18 = .ok (.iaload, 1) := dk_46 (dk_at dksX2_held_0 18 rfl rfl)
theorem dX2_held_19 : decode cX2_held 19 = .ok (.goto 5, 3) := dk_167 0 5 (dk_at dksX2_held_0 19 rfl rfl)
theorem dX2_held_22 : decode cX2_held 22 = .ok (.bipush 60, 2) := dk_16 60 (dk_at dksX2_held_0 22 rfl rfl)
theorem dX2_held_24 : decode cX2_held 24 = .ok (.ireturn, 1) := dk_172 (dk_at dksX2_held_1 0 rfl rfl)
abbrev cX2_foretold : ByteArray := prog_19_method_94_code
def yX2_foretold : MethodName := ⟨RX2, "foretold", "(IZI)I"⟩
def dkwX2_foretold_6 : List UInt8 := [167, 0, 15, 29, 5, 160, 0, 8, 21, 4, 167, 0, 5, 21, 5, 54, 6, 42, 182, 1, 126, 21, 6, 172]
abbrev dktX2_foretold_6 : List UInt8 := dkwX2_foretold_6 ++ []
def dkwX2_foretold_5 : List UInt8 := [42, 180, 0, 7, 16, 8, 46, 167, 0, 30, 29, 4, 160, 0, 13, 42, 180, 0, 7, 16, 10, 46]
abbrev dktX2_foretold_5 : List UInt8 := dkwX2_foretold_5 ++ dktX2_foretold_6
def dkwX2_foretold_4 : List UInt8 := [160, 0, 14, 42, 182, 1, 91, 153, 0, 7, 21, 6, 54, 5, 132, 6, 1, 167, 255, 182, 29, 154, 0, 13]
abbrev dktX2_foretold_4 : List UInt8 := dkwX2_foretold_4 ++ dktX2_foretold_5
def dkwX2_foretold_3 : List UInt8 := [21, 4, 164, 0, 13, 42, 182, 1, 36, 184, 1, 67, 167, 0, 5, 21, 4, 54, 4, 21, 5, 2]
abbrev dktX2_foretold_3 : List UInt8 := dkwX2_foretold_3 ++ dktX2_foretold_4
def dkwX2_foretold_2 : List UInt8 := [42, 42, 180, 0, 7, 7, 46, 182, 1, 82, 167, 0, 4, 3, 182, 1, 76, 42, 182, 1, 36, 184, 1, 67]
abbrev dktX2_foretold_2 : List UInt8 := dkwX2_foretold_2 ++ dktX2_foretold_3
def dkwX2_foretold_1 : List UInt8 := [42, 182, 1, 123, 3, 54, 4, 2, 54, 5, 4, 54, 6, 21, 6, 27, 163, 0, 74, 42, 28, 153, 0, 16]
abbrev dktX2_foretold_1 : List UInt8 := dkwX2_foretold_1 ++ dktX2_foretold_2
def dkwX2_foretold_0 : List UInt8 := [27, 4, 17, 0, 200, 184, 0, 71, 153, 0, 12, 29, 3, 6, 184, 0, 71, 154, 0, 7, 19, 1, 113, 172]
abbrev dktX2_foretold_0 : List UInt8 := dkwX2_foretold_0 ++ dktX2_foretold_1
theorem dksX2_foretold_0 : cX2_foretold.data.toList.drop 0 = dktX2_foretold_0 := by decide +kernel
theorem dksX2_foretold_1 : cX2_foretold.data.toList.drop 24 = dktX2_foretold_1 := dk_seg dksX2_foretold_0 24 rfl rfl
theorem dksX2_foretold_2 : cX2_foretold.data.toList.drop 48 = dktX2_foretold_2 := dk_seg dksX2_foretold_1 24 rfl rfl
theorem dksX2_foretold_3 : cX2_foretold.data.toList.drop 72 = dktX2_foretold_3 := dk_seg dksX2_foretold_2 24 rfl rfl
theorem dksX2_foretold_4 : cX2_foretold.data.toList.drop 94 = dktX2_foretold_4 := dk_seg dksX2_foretold_3 22 rfl rfl
theorem dksX2_foretold_5 : cX2_foretold.data.toList.drop 118 = dktX2_foretold_5 := dk_seg dksX2_foretold_4 24 rfl rfl
theorem dksX2_foretold_6 : cX2_foretold.data.toList.drop 140 = dktX2_foretold_6 := dk_seg dksX2_foretold_5 22 rfl rfl
theorem dX2_foretold_0 : decode cX2_foretold 0 = .ok (.iload_n 1, 1) := dk_27 (dk_at dksX2_foretold_0 0 rfl rfl)
theorem dX2_foretold_1 : decode cX2_foretold 1 = .ok (.iconst 1, 1) := dk_4 (dk_at dksX2_foretold_0 1 rfl rfl)
theorem dX2_foretold_2 : decode cX2_foretold 2 = .ok (.sipush 200, 3) := dk_17 0 200 (dk_at dksX2_foretold_0 2 rfl rfl)
theorem dX2_foretold_5 : decode cX2_foretold 5 = .ok (.invokestatic 71, 3) := dk_184 0 71 (dk_at dksX2_foretold_0 5 rfl rfl)
theorem dX2_foretold_8 : decode cX2_foretold 8 = .ok (.ifCond .eq 12, 3) := dk_153 0 12 (dk_at dksX2_foretold_0 8 rfl rfl)
theorem dX2_foretold_11 : decode cX2_foretold 11 = .ok (.iload_n 3, 1) := dk_29 (dk_at dksX2_foretold_0 11 rfl rfl)
theorem dX2_foretold_12 : decode cX2_foretold 12 = .ok (.iconst 0, 1) := dk_3 (dk_at dksX2_foretold_0 12 rfl rfl)
theorem dX2_foretold_13 : decode cX2_foretold 13 = .ok (.iconst 3, 1) := dk_6 (dk_at dksX2_foretold_0 13 rfl rfl)
theorem dX2_foretold_14 : decode cX2_foretold 14 = .ok (.invokestatic 71, 3) := dk_184 0 71 (dk_at dksX2_foretold_0 14 rfl rfl)
theorem dX2_foretold_17 : decode cX2_foretold 17 = .ok (.ifCond .ne 7, 3) := dk_154 0 7 (dk_at dksX2_foretold_0 17 rfl rfl)
theorem dX2_foretold_20 : decode cX2_foretold 20 = .ok (.ldc_w 369, 3) := dk_19 1 113 (dk_at dksX2_foretold_0 20 rfl rfl)
theorem dX2_foretold_23 : decode cX2_foretold 23 = .ok (.ireturn, 1) := dk_172 (dk_at dksX2_foretold_0 23 rfl rfl)
theorem dX2_foretold_24 : decode cX2_foretold 24 = .ok (.aload_n 0, 1) := dk_42 (dk_at dksX2_foretold_1 0 rfl rfl)
theorem dX2_foretold_25 : decode cX2_foretold 25 = .ok (.invokevirtual 379, 3) := dk_182 1 123 (dk_at dksX2_foretold_1 1 rfl rfl)
theorem dX2_foretold_28 : decode cX2_foretold 28 = .ok (.iconst 0, 1) := dk_3 (dk_at dksX2_foretold_1 4 rfl rfl)
theorem dX2_foretold_29 : decode cX2_foretold 29 = .ok (.istore 4, 2) := dk_54 4 (dk_at dksX2_foretold_1 5 rfl rfl)
theorem dX2_foretold_31 : decode cX2_foretold 31 = .ok (.iconst (-1), 1) := dk_2 (dk_at dksX2_foretold_1 7 rfl rfl)
theorem dX2_foretold_32 : decode cX2_foretold 32 = .ok (.istore 5, 2) := dk_54 5 (dk_at dksX2_foretold_1 8 rfl rfl)
theorem dX2_foretold_34 : decode cX2_foretold 34 = .ok (.iconst 1, 1) := dk_4 (dk_at dksX2_foretold_1 10 rfl rfl)
theorem dX2_foretold_35 : decode cX2_foretold 35 = .ok (.istore 6, 2) := dk_54 6 (dk_at dksX2_foretold_1 11 rfl rfl)
theorem dX2_foretold_37 : decode cX2_foretold 37 = .ok (.iload 6, 2) := dk_21 6 (dk_at dksX2_foretold_1 13 rfl rfl)
theorem dX2_foretold_39 : decode cX2_foretold 39 = .ok (.iload_n 1, 1) := dk_27 (dk_at dksX2_foretold_1 15 rfl rfl)
theorem dX2_foretold_40 : decode cX2_foretold 40 = .ok (.if_icmp .gt 74, 3) := dk_163 0 74 (dk_at dksX2_foretold_1 16 rfl rfl)
theorem dX2_foretold_43 : decode cX2_foretold 43 = .ok (.aload_n 0, 1) := dk_42 (dk_at dksX2_foretold_1 19 rfl rfl)
theorem dX2_foretold_44 : decode cX2_foretold 44 = .ok (.iload_n 2, 1) := dk_28 (dk_at dksX2_foretold_1 20 rfl rfl)
theorem dX2_foretold_45 : decode cX2_foretold 45 = .ok (.ifCond .eq 16, 3) := dk_153 0 16 (dk_at dksX2_foretold_1 21 rfl rfl)
theorem dX2_foretold_48 : decode cX2_foretold 48 = .ok (.aload_n 0, 1) := dk_42 (dk_at dksX2_foretold_2 0 rfl rfl)
theorem dX2_foretold_49 : decode cX2_foretold 49 = .ok (.aload_n 0, 1) := dk_42 (dk_at dksX2_foretold_2 1 rfl rfl)
theorem dX2_foretold_50 : decode cX2_foretold 50 = .ok (.getfield 7, 3) := dk_180 0 7 (dk_at dksX2_foretold_2 2 rfl rfl)
theorem dX2_foretold_53 : decode cX2_foretold 53 = .ok (.iconst 4, 1) := dk_7 (dk_at dksX2_foretold_2 5 rfl rfl)
theorem dX2_foretold_54 : decode cX2_foretold 54 = .ok (.iaload, 1) := dk_46 (dk_at dksX2_foretold_2 6 rfl rfl)
theorem dX2_foretold_55 : decode cX2_foretold 55 = .ok (.invokevirtual 338, 3) := dk_182 1 82 (dk_at dksX2_foretold_2 7 rfl rfl)
theorem dX2_foretold_58 : decode cX2_foretold 58 = .ok (.goto 4, 3) := dk_167 0 4 (dk_at dksX2_foretold_2 10 rfl rfl)
theorem dX2_foretold_61 : decode cX2_foretold 61 = .ok (.iconst 0, 1) := dk_3 (dk_at dksX2_foretold_2 13 rfl rfl)
theorem dX2_foretold_62 : decode cX2_foretold 62 = .ok (.invokevirtual 332, 3) := dk_182 1 76 (dk_at dksX2_foretold_2 14 rfl rfl)
theorem dX2_foretold_65 : decode cX2_foretold 65 = .ok (.aload_n 0, 1) := dk_42 (dk_at dksX2_foretold_2 17 rfl rfl)
theorem dX2_foretold_66 : decode cX2_foretold 66 = .ok (.invokevirtual 292, 3) := dk_182 1 36 (dk_at dksX2_foretold_2 18 rfl rfl)
theorem dX2_foretold_69 : decode cX2_foretold 69 = .ok (.invokestatic 323, 3) := dk_184 1 67 (dk_at dksX2_foretold_2 21 rfl rfl)
theorem dX2_foretold_72 : decode cX2_foretold 72 = .ok (.iload 4, 2) := dk_21 4 (dk_at dksX2_foretold_3 0 rfl rfl)
theorem dX2_foretold_74 : decode cX2_foretold 74 = .ok (.if_icmp .le 13, 3) := dk_164 0 13 (dk_at dksX2_foretold_3 2 rfl rfl)
theorem dX2_foretold_77 : decode cX2_foretold 77 = .ok (.aload_n 0, 1) := dk_42 (dk_at dksX2_foretold_3 5 rfl rfl)
theorem dX2_foretold_78 : decode cX2_foretold 78 = .ok (.invokevirtual 292, 3) := dk_182 1 36 (dk_at dksX2_foretold_3 6 rfl rfl)
theorem dX2_foretold_81 : decode cX2_foretold 81 = .ok (.invokestatic 323, 3) := dk_184 1 67 (dk_at dksX2_foretold_3 9 rfl rfl)
theorem dX2_foretold_84 : decode cX2_foretold 84 = .ok (.goto 5, 3) := dk_167 0 5 (dk_at dksX2_foretold_3 12 rfl rfl)
theorem dX2_foretold_87 : decode cX2_foretold 87 = .ok (.iload 4, 2) := dk_21 4 (dk_at dksX2_foretold_3 15 rfl rfl)
theorem dX2_foretold_89 : decode cX2_foretold 89 = .ok (.istore 4, 2) := dk_54 4 (dk_at dksX2_foretold_3 17 rfl rfl)
theorem dX2_foretold_91 : decode cX2_foretold 91 = .ok (.iload 5, 2) := dk_21 5 (dk_at dksX2_foretold_3 19 rfl rfl)
theorem dX2_foretold_93 : decode cX2_foretold 93 = .ok (.iconst (-1), 1) := dk_2 (dk_at dksX2_foretold_3 21 rfl rfl)
theorem dX2_foretold_94 : decode cX2_foretold 94 = .ok (.if_icmp .ne 14, 3) := dk_160 0 14 (dk_at dksX2_foretold_4 0 rfl rfl)
theorem dX2_foretold_97 : decode cX2_foretold 97 = .ok (.aload_n 0, 1) := dk_42 (dk_at dksX2_foretold_4 3 rfl rfl)
theorem dX2_foretold_98 : decode cX2_foretold 98 = .ok (.invokevirtual 347, 3) := dk_182 1 91 (dk_at dksX2_foretold_4 4 rfl rfl)
theorem dX2_foretold_101 : decode cX2_foretold 101 = .ok (.ifCond .eq 7, 3) := dk_153 0 7 (dk_at dksX2_foretold_4 7 rfl rfl)
theorem dX2_foretold_104 : decode cX2_foretold 104 = .ok (.iload 6, 2) := dk_21 6 (dk_at dksX2_foretold_4 10 rfl rfl)
theorem dX2_foretold_106 : decode cX2_foretold 106 = .ok (.istore 5, 2) := dk_54 5 (dk_at dksX2_foretold_4 12 rfl rfl)
theorem dX2_foretold_108 : decode cX2_foretold 108 = .ok (.iinc 6 1, 3) := dk_132 6 1 (dk_at dksX2_foretold_4 14 rfl rfl)
theorem dX2_foretold_111 : decode cX2_foretold 111 = .ok (.goto (-74), 3) := dk_167 255 182 (dk_at dksX2_foretold_4 17 rfl rfl)
theorem dX2_foretold_114 : decode cX2_foretold 114 = .ok (.iload_n 3, 1) := dk_29 (dk_at dksX2_foretold_4 20 rfl rfl)
theorem dX2_foretold_115 : decode cX2_foretold 115 = .ok (.ifCond .ne 13, 3) := dk_154 0 13 (dk_at dksX2_foretold_4 21 rfl rfl)
theorem dX2_foretold_118 : decode cX2_foretold 118 = .ok (.aload_n 0, 1) := dk_42 (dk_at dksX2_foretold_5 0 rfl rfl)
theorem dX2_foretold_119 : decode cX2_foretold 119 = .ok (.getfield 7, 3) := dk_180 0 7 (dk_at dksX2_foretold_5 1 rfl rfl)
theorem dX2_foretold_122 : decode cX2_foretold 122 = .ok (.bipush 8, 2) := dk_16 8 (dk_at dksX2_foretold_5 4 rfl rfl)
theorem dX2_foretold_124 : decode cX2_foretold 124 = .ok (.iaload, 1) := dk_46 (dk_at dksX2_foretold_5 6 rfl rfl)
theorem dX2_foretold_125 : decode cX2_foretold 125 = .ok (.goto 30, 3) := dk_167 0 30 (dk_at dksX2_foretold_5 7 rfl rfl)
theorem dX2_foretold_128 : decode cX2_foretold 128 = .ok (.iload_n 3, 1) := dk_29 (dk_at dksX2_foretold_5 10 rfl rfl)
theorem dX2_foretold_129 : decode cX2_foretold 129 = .ok (.iconst 1, 1) := dk_4 (dk_at dksX2_foretold_5 11 rfl rfl)
theorem dX2_foretold_130 : decode cX2_foretold 130 = .ok (.if_icmp .ne 13, 3) := dk_160 0 13 (dk_at dksX2_foretold_5 12 rfl rfl)
theorem dX2_foretold_133 : decode cX2_foretold 133 = .ok (.aload_n 0, 1) := dk_42 (dk_at dksX2_foretold_5 15 rfl rfl)
theorem dX2_foretold_134 : decode cX2_foretold 134 = .ok (.getfield 7, 3) := dk_180 0 7 (dk_at dksX2_foretold_5 16 rfl rfl)
theorem dX2_foretold_137 : decode cX2_foretold 137 = .ok (.bipush 10, 2) := dk_16 10 (dk_at dksX2_foretold_5 19 rfl rfl)
theorem dX2_foretold_139 : decode cX2_foretold 139 = .ok (.iaload, 1) := dk_46 (dk_at dksX2_foretold_5 21 rfl rfl)
theorem dX2_foretold_140 : decode cX2_foretold 140 = .ok (.goto 15, 3) := dk_167 0 15 (dk_at dksX2_foretold_6 0 rfl rfl)
theorem dX2_foretold_143 : decode cX2_foretold 143 = .ok (.iload_n 3, 1) := dk_29 (dk_at dksX2_foretold_6 3 rfl rfl)
theorem dX2_foretold_144 : decode cX2_foretold 144 = .ok (.iconst 2, 1) := dk_5 (dk_at dksX2_foretold_6 4 rfl rfl)
theorem dX2_foretold_145 : decode cX2_foretold 145 = .ok (.if_icmp .ne 8, 3) := dk_160 0 8 (dk_at dksX2_foretold_6 5 rfl rfl)
theorem dX2_foretold_148 : decode cX2_foretold 148 = .ok (.iload 4, 2) := dk_21 4 (dk_at dksX2_foretold_6 8 rfl rfl)
theorem dX2_foretold_150 : decode cX2_foretold 150 = .ok (.goto 5, 3) := dk_167 0 5 (dk_at dksX2_foretold_6 10 rfl rfl)
theorem dX2_foretold_153 : decode cX2_foretold 153 = .ok (.iload 5, 2) := dk_21 5 (dk_at dksX2_foretold_6 13 rfl rfl)
theorem dX2_foretold_155 : decode cX2_foretold 155 = .ok (.istore 6, 2) := dk_54 6 (dk_at dksX2_foretold_6 15 rfl rfl)
theorem dX2_foretold_157 : decode cX2_foretold 157 = .ok (.aload_n 0, 1) := dk_42 (dk_at dksX2_foretold_6 17 rfl rfl)
theorem dX2_foretold_158 : decode cX2_foretold 158 = .ok (.invokevirtual 382, 3) := dk_182 1 126 (dk_at dksX2_foretold_6 18 rfl rfl)
theorem dX2_foretold_161 : decode cX2_foretold 161 = .ok (.iload 6, 2) := dk_21 6 (dk_at dksX2_foretold_6 21 rfl rfl)
theorem dX2_foretold_163 : decode cX2_foretold 163 = .ok (.ireturn, 1) := dk_172 (dk_at dksX2_foretold_6 23 rfl rfl)
abbrev cX2_begin : ByteArray := prog_19_method_92_code
def yX2_begin : MethodName := ⟨RX2, "begin", "()V"⟩
def dkwX2_begin_1 : List UInt8 := [167, 255, 235, 177]
abbrev dktX2_begin_1 : List UInt8 := dkwX2_begin_1 ++ []
def dkwX2_begin_0 : List UInt8 := [3, 60, 27, 16, 18, 162, 0, 21, 42, 180, 0, 43, 27, 42, 180, 0, 7, 27, 46, 79, 132, 1, 1]
abbrev dktX2_begin_0 : List UInt8 := dkwX2_begin_0 ++ dktX2_begin_1
theorem dksX2_begin_0 : cX2_begin.data.toList.drop 0 = dktX2_begin_0 := by decide +kernel
theorem dksX2_begin_1 : cX2_begin.data.toList.drop 23 = dktX2_begin_1 := dk_seg dksX2_begin_0 23 rfl rfl
theorem dX2_begin_0 : decode cX2_begin 0 = .ok (.iconst 0, 1) := dk_3 (dk_at dksX2_begin_0 0 rfl rfl)
theorem dX2_begin_1 : decode cX2_begin 1 = .ok (.istore_n 1, 1) := dk_60 (dk_at dksX2_begin_0 1 rfl rfl)
theorem dX2_begin_2 : decode cX2_begin 2 = .ok (.iload_n 1, 1) := dk_27 (dk_at dksX2_begin_0 2 rfl rfl)
theorem dX2_begin_3 : decode cX2_begin 3 = .ok (.bipush 18, 2) := dk_16 18 (dk_at dksX2_begin_0 3 rfl rfl)
theorem dX2_begin_5 : decode cX2_begin 5 = .ok (.if_icmp .ge 21, 3) := dk_162 0 21 (dk_at dksX2_begin_0 5 rfl rfl)
theorem dX2_begin_8 : decode cX2_begin 8 = .ok (.aload_n 0, 1) := dk_42 (dk_at dksX2_begin_0 8 rfl rfl)
theorem dX2_begin_9 : decode cX2_begin 9 = .ok (.getfield 43, 3) := dk_180 0 43 (dk_at dksX2_begin_0 9 rfl rfl)
theorem dX2_begin_12 : decode cX2_begin 12 = .ok (.iload_n 1, 1) := dk_27 (dk_at dksX2_begin_0 12 rfl rfl)
theorem dX2_begin_13 : decode cX2_begin 13 = .ok (.aload_n 0, 1) := dk_42 (dk_at dksX2_begin_0 13 rfl rfl)
theorem dX2_begin_14 : decode cX2_begin 14 = .ok (.getfield 7, 3) := dk_180 0 7 (dk_at dksX2_begin_0 14 rfl rfl)
theorem dX2_begin_17 : decode cX2_begin 17 = .ok (.iload_n 1, 1) := dk_27 (dk_at dksX2_begin_0 17 rfl rfl)
theorem dX2_begin_18 : decode cX2_begin 18 = .ok (.iaload, 1) := dk_46 (dk_at dksX2_begin_0 18 rfl rfl)
theorem dX2_begin_19 : decode cX2_begin 19 = .ok (.iastore, 1) := dk_79 (dk_at dksX2_begin_0 19 rfl rfl)
theorem dX2_begin_20 : decode cX2_begin 20 = .ok (.iinc 1 1, 3) := dk_132 1 1 (dk_at dksX2_begin_0 20 rfl rfl)
theorem dX2_begin_23 : decode cX2_begin 23 = .ok (.goto (-21), 3) := dk_167 255 235 (dk_at dksX2_begin_1 0 rfl rfl)
theorem dX2_begin_26 : decode cX2_begin 26 = .ok (.return_, 1) := dk_177 (dk_at dksX2_begin_1 3 rfl rfl)
abbrev cX2_putBack : ByteArray := prog_19_method_93_code
def yX2_putBack : MethodName := ⟨RX2, "putBack", "()V"⟩
def dkwX2_putBack_1 : List UInt8 := [167, 255, 235, 42, 3, 181, 1, 61, 177]
abbrev dktX2_putBack_1 : List UInt8 := dkwX2_putBack_1 ++ []
def dkwX2_putBack_0 : List UInt8 := [3, 60, 27, 16, 18, 162, 0, 21, 42, 180, 0, 7, 27, 42, 180, 0, 43, 27, 46, 79, 132, 1, 1]
abbrev dktX2_putBack_0 : List UInt8 := dkwX2_putBack_0 ++ dktX2_putBack_1
theorem dksX2_putBack_0 : cX2_putBack.data.toList.drop 0 = dktX2_putBack_0 := by decide +kernel
theorem dksX2_putBack_1 : cX2_putBack.data.toList.drop 23 = dktX2_putBack_1 := dk_seg dksX2_putBack_0 23 rfl rfl
theorem dX2_putBack_0 : decode cX2_putBack 0 = .ok (.iconst 0, 1) := dk_3 (dk_at dksX2_putBack_0 0 rfl rfl)
theorem dX2_putBack_1 : decode cX2_putBack 1 = .ok (.istore_n 1, 1) := dk_60 (dk_at dksX2_putBack_0 1 rfl rfl)
theorem dX2_putBack_2 : decode cX2_putBack 2 = .ok (.iload_n 1, 1) := dk_27 (dk_at dksX2_putBack_0 2 rfl rfl)
theorem dX2_putBack_3 : decode cX2_putBack 3 = .ok (.bipush 18, 2) := dk_16 18 (dk_at dksX2_putBack_0 3 rfl rfl)
theorem dX2_putBack_5 : decode cX2_putBack 5 = .ok (.if_icmp .ge 21, 3) := dk_162 0 21 (dk_at dksX2_putBack_0 5 rfl rfl)
theorem dX2_putBack_8 : decode cX2_putBack 8 = .ok (.aload_n 0, 1) := dk_42 (dk_at dksX2_putBack_0 8 rfl rfl)
theorem dX2_putBack_9 : decode cX2_putBack 9 = .ok (.getfield 7, 3) := dk_180 0 7 (dk_at dksX2_putBack_0 9 rfl rfl)
theorem dX2_putBack_12 : decode cX2_putBack 12 = .ok (.iload_n 1, 1) := dk_27 (dk_at dksX2_putBack_0 12 rfl rfl)
theorem dX2_putBack_13 : decode cX2_putBack 13 = .ok (.aload_n 0, 1) := dk_42 (dk_at dksX2_putBack_0 13 rfl rfl)
theorem dX2_putBack_14 : decode cX2_putBack 14 = .ok (.getfield 43, 3) := dk_180 0 43 (dk_at dksX2_putBack_0 14 rfl rfl)
theorem dX2_putBack_17 : decode cX2_putBack 17 = .ok (.iload_n 1, 1) := dk_27 (dk_at dksX2_putBack_0 17 rfl rfl)
theorem dX2_putBack_18 : decode cX2_putBack 18 = .ok (.iaload, 1) := dk_46 (dk_at dksX2_putBack_0 18 rfl rfl)
theorem dX2_putBack_19 : decode cX2_putBack 19 = .ok (.iastore, 1) := dk_79 (dk_at dksX2_putBack_0 19 rfl rfl)
theorem dX2_putBack_20 : decode cX2_putBack 20 = .ok (.iinc 1 1, 3) := dk_132 1 1 (dk_at dksX2_putBack_0 20 rfl rfl)
theorem dX2_putBack_23 : decode cX2_putBack 23 = .ok (.goto (-21), 3) := dk_167 255 235 (dk_at dksX2_putBack_1 0 rfl rfl)
theorem dX2_putBack_26 : decode cX2_putBack 26 = .ok (.aload_n 0, 1) := dk_42 (dk_at dksX2_putBack_1 3 rfl rfl)
theorem dX2_putBack_27 : decode cX2_putBack 27 = .ok (.iconst 0, 1) := dk_3 (dk_at dksX2_putBack_1 4 rfl rfl)
theorem dX2_putBack_28 : decode cX2_putBack 28 = .ok (.putfield 317, 3) := dk_181 1 61 (dk_at dksX2_putBack_1 5 rfl rfl)
theorem dX2_putBack_31 : decode cX2_putBack 31 = .ok (.return_, 1) := dk_177 (dk_at dksX2_putBack_1 8 rfl rfl)
abbrev cX2_soonest : ByteArray := prog_19_method_97_code
def yX2_soonest : MethodName := ⟨RX2, "soonest", "(I)I"⟩
def dkwX2_soonest_4 : List UInt8 := [172]
abbrev dktX2_soonest_4 : List UInt8 := dkwX2_soonest_4 ++ []
def dkwX2_soonest_3 : List UInt8 := [167, 0, 5, 16, 254, 172, 132, 4, 1, 167, 255, 197, 28, 6, 104, 61, 132, 3, 1, 167, 255, 178, 16, 254]
abbrev dktX2_soonest_3 : List UInt8 := dkwX2_soonest_3 ++ dktX2_soonest_4
def dkwX2_soonest_2 : List UInt8 := [167, 0, 30, 27, 2, 160, 0, 7, 29, 167, 0, 20, 27, 29, 162, 0, 13, 21, 4, 29, 27, 184, 1, 129]
abbrev dktX2_soonest_2 : List UInt8 := dkwX2_soonest_2 ++ dktX2_soonest_3
def dkwX2_soonest_1 : List UInt8 := [162, 0, 59, 42, 180, 0, 7, 16, 16, 46, 155, 0, 49, 42, 21, 4, 29, 182, 1, 132, 154, 0, 6]
abbrev dktX2_soonest_1 : List UInt8 := dkwX2_soonest_1 ++ dktX2_soonest_2
def dkwX2_soonest_0 : List UInt8 := [27, 2, 162, 0, 6, 16, 254, 172, 4, 61, 3, 62, 29, 16, 8, 162, 0, 78, 3, 54, 4, 21, 4, 28]
abbrev dktX2_soonest_0 : List UInt8 := dkwX2_soonest_0 ++ dktX2_soonest_1
theorem dksX2_soonest_0 : cX2_soonest.data.toList.drop 0 = dktX2_soonest_0 := by decide +kernel
theorem dksX2_soonest_1 : cX2_soonest.data.toList.drop 24 = dktX2_soonest_1 := dk_seg dksX2_soonest_0 24 rfl rfl
theorem dksX2_soonest_2 : cX2_soonest.data.toList.drop 47 = dktX2_soonest_2 := dk_seg dksX2_soonest_1 23 rfl rfl
theorem dksX2_soonest_3 : cX2_soonest.data.toList.drop 71 = dktX2_soonest_3 := dk_seg dksX2_soonest_2 24 rfl rfl
theorem dksX2_soonest_4 : cX2_soonest.data.toList.drop 95 = dktX2_soonest_4 := dk_seg dksX2_soonest_3 24 rfl rfl
theorem dX2_soonest_0 : decode cX2_soonest 0 = .ok (.iload_n 1, 1) := dk_27 (dk_at dksX2_soonest_0 0 rfl rfl)
theorem dX2_soonest_1 : decode cX2_soonest 1 = .ok (.iconst (-1), 1) := dk_2 (dk_at dksX2_soonest_0 1 rfl rfl)
theorem dX2_soonest_2 : decode cX2_soonest 2 = .ok (.if_icmp .ge 6, 3) := dk_162 0 6 (dk_at dksX2_soonest_0 2 rfl rfl)
theorem dX2_soonest_5 : decode cX2_soonest 5 = .ok (.bipush (-2), 2) := dk_16 254 (dk_at dksX2_soonest_0 5 rfl rfl)
theorem dX2_soonest_7 : decode cX2_soonest 7 = .ok (.ireturn, 1) := dk_172 (dk_at dksX2_soonest_0 7 rfl rfl)
theorem dX2_soonest_8 : decode cX2_soonest 8 = .ok (.iconst 1, 1) := dk_4 (dk_at dksX2_soonest_0 8 rfl rfl)
theorem dX2_soonest_9 : decode cX2_soonest 9 = .ok (.istore_n 2, 1) := dk_61 (dk_at dksX2_soonest_0 9 rfl rfl)
theorem dX2_soonest_10 : decode cX2_soonest 10 = .ok (.iconst 0, 1) := dk_3 (dk_at dksX2_soonest_0 10 rfl rfl)
theorem dX2_soonest_11 : decode cX2_soonest 11 = .ok (.istore_n 3, 1) := dk_62 (dk_at dksX2_soonest_0 11 rfl rfl)
theorem dX2_soonest_12 : decode cX2_soonest 12 = .ok (.iload_n 3, 1) := dk_29 (dk_at dksX2_soonest_0 12 rfl rfl)
theorem dX2_soonest_13 : decode cX2_soonest 13 = .ok (.bipush 8, 2) := dk_16 8 (dk_at dksX2_soonest_0 13 rfl rfl)
theorem dX2_soonest_15 : decode cX2_soonest 15 = .ok (.if_icmp .ge 78, 3) := dk_162 0 78 (dk_at dksX2_soonest_0 15 rfl rfl)
theorem dX2_soonest_18 : decode cX2_soonest 18 = .ok (.iconst 0, 1) := dk_3 (dk_at dksX2_soonest_0 18 rfl rfl)
theorem dX2_soonest_19 : decode cX2_soonest 19 = .ok (.istore 4, 2) := dk_54 4 (dk_at dksX2_soonest_0 19 rfl rfl)
theorem dX2_soonest_21 : decode cX2_soonest 21 = .ok (.iload 4, 2) := dk_21 4 (dk_at dksX2_soonest_0 21 rfl rfl)
theorem dX2_soonest_23 : decode cX2_soonest 23 = .ok (.iload_n 2, 1) := dk_28 (dk_at dksX2_soonest_0 23 rfl rfl)
theorem dX2_soonest_24 : decode cX2_soonest 24 = .ok (.if_icmp .ge 59, 3) := dk_162 0 59 (dk_at dksX2_soonest_1 0 rfl rfl)
theorem dX2_soonest_27 : decode cX2_soonest 27 = .ok (.aload_n 0, 1) := dk_42 (dk_at dksX2_soonest_1 3 rfl rfl)
theorem dX2_soonest_28 : decode cX2_soonest 28 = .ok (.getfield 7, 3) := dk_180 0 7 (dk_at dksX2_soonest_1 4 rfl rfl)
theorem dX2_soonest_31 : decode cX2_soonest 31 = .ok (.bipush 16, 2) := dk_16 16 (dk_at dksX2_soonest_1 7 rfl rfl)
theorem dX2_soonest_33 : decode cX2_soonest 33 = .ok (.iaload, 1) := dk_46 (dk_at dksX2_soonest_1 9 rfl rfl)
theorem dX2_soonest_34 : decode cX2_soonest 34 = .ok (.ifCond .lt 49, 3) := dk_155 0 49 (dk_at dksX2_soonest_1 10 rfl rfl)
theorem dX2_soonest_37 : decode cX2_soonest 37 = .ok (.aload_n 0, 1) := dk_42 (dk_at dksX2_soonest_1 13 rfl rfl)
theorem dX2_soonest_38 : decode cX2_soonest 38 = .ok (.iload 4, 2) := dk_21 4 (dk_at dksX2_soonest_1 14 rfl rfl)
theorem dX2_soonest_40 : decode cX2_soonest 40 = .ok (.iload_n 3, 1) := dk_29 (dk_at dksX2_soonest_1 16 rfl rfl)
theorem dX2_soonest_41 : decode cX2_soonest 41 = .ok (.invokevirtual 388, 3) := dk_182 1 132 (dk_at dksX2_soonest_1 17 rfl rfl)
theorem dX2_soonest_44 : decode cX2_soonest 44 = .ok (.ifCond .ne 6, 3) := dk_154 0 6 (dk_at dksX2_soonest_1 20 rfl rfl)
theorem dX2_soonest_47 : decode cX2_soonest 47 = .ok (.goto 30, 3) := dk_167 0 30 (dk_at dksX2_soonest_2 0 rfl rfl)
theorem dX2_soonest_50 : decode cX2_soonest 50 = .ok (.iload_n 1, 1) := dk_27 (dk_at dksX2_soonest_2 3 rfl rfl)
theorem dX2_soonest_51 : decode cX2_soonest 51 = .ok (.iconst (-1), 1) := dk_2 (dk_at dksX2_soonest_2 4 rfl rfl)
theorem dX2_soonest_52 : decode cX2_soonest 52 = .ok (.if_icmp .ne 7, 3) := dk_160 0 7 (dk_at dksX2_soonest_2 5 rfl rfl)
theorem dX2_soonest_55 : decode cX2_soonest 55 = .ok (.iload_n 3, 1) := dk_29 (dk_at dksX2_soonest_2 8 rfl rfl)
theorem dX2_soonest_56 : decode cX2_soonest 56 = .ok (.goto 20, 3) := dk_167 0 20 (dk_at dksX2_soonest_2 9 rfl rfl)
theorem dX2_soonest_59 : decode cX2_soonest 59 = .ok (.iload_n 1, 1) := dk_27 (dk_at dksX2_soonest_2 12 rfl rfl)
theorem dX2_soonest_60 : decode cX2_soonest 60 = .ok (.iload_n 3, 1) := dk_29 (dk_at dksX2_soonest_2 13 rfl rfl)
theorem dX2_soonest_61 : decode cX2_soonest 61 = .ok (.if_icmp .ge 13, 3) := dk_162 0 13 (dk_at dksX2_soonest_2 14 rfl rfl)
theorem dX2_soonest_64 : decode cX2_soonest 64 = .ok (.iload 4, 2) := dk_21 4 (dk_at dksX2_soonest_2 17 rfl rfl)
theorem dX2_soonest_66 : decode cX2_soonest 66 = .ok (.iload_n 3, 1) := dk_29 (dk_at dksX2_soonest_2 19 rfl rfl)
theorem dX2_soonest_67 : decode cX2_soonest 67 = .ok (.iload_n 1, 1) := dk_27 (dk_at dksX2_soonest_2 20 rfl rfl)
theorem dX2_soonest_68 : decode cX2_soonest 68 = .ok (.invokestatic 385, 3) := dk_184 1 129 (dk_at dksX2_soonest_2 21 rfl rfl)
theorem dX2_soonest_71 : decode cX2_soonest 71 = .ok (.goto 5, 3) := dk_167 0 5 (dk_at dksX2_soonest_3 0 rfl rfl)
theorem dX2_soonest_74 : decode cX2_soonest 74 = .ok (.bipush (-2), 2) := dk_16 254 (dk_at dksX2_soonest_3 3 rfl rfl)
theorem dX2_soonest_76 : decode cX2_soonest 76 = .ok (.ireturn, 1) := dk_172 (dk_at dksX2_soonest_3 5 rfl rfl)
theorem dX2_soonest_77 : decode cX2_soonest 77 = .ok (.iinc 4 1, 3) := dk_132 4 1 (dk_at dksX2_soonest_3 6 rfl rfl)
theorem dX2_soonest_80 : decode cX2_soonest 80 = .ok (.goto (-59), 3) := dk_167 255 197 (dk_at dksX2_soonest_3 9 rfl rfl)
theorem dX2_soonest_83 : decode cX2_soonest 83 = .ok (.iload_n 2, 1) := dk_28 (dk_at dksX2_soonest_3 12 rfl rfl)
theorem dX2_soonest_84 : decode cX2_soonest 84 = .ok (.iconst 3, 1) := dk_6 (dk_at dksX2_soonest_3 13 rfl rfl)
theorem dX2_soonest_85 : decode cX2_soonest 85 = .ok (.imul, 1) := dk_104 (dk_at dksX2_soonest_3 14 rfl rfl)
theorem dX2_soonest_86 : decode cX2_soonest 86 = .ok (.istore_n 2, 1) := dk_61 (dk_at dksX2_soonest_3 15 rfl rfl)
theorem dX2_soonest_87 : decode cX2_soonest 87 = .ok (.iinc 3 1, 3) := dk_132 3 1 (dk_at dksX2_soonest_3 16 rfl rfl)
theorem dX2_soonest_90 : decode cX2_soonest 90 = .ok (.goto (-78), 3) := dk_167 255 178 (dk_at dksX2_soonest_3 19 rfl rfl)
theorem dX2_soonest_93 : decode cX2_soonest 93 = .ok (.bipush (-2), 2) := dk_16 254 (dk_at dksX2_soonest_3 22 rfl rfl)
theorem dX2_soonest_95 : decode cX2_soonest 95 = .ok (.ireturn, 1) := dk_172 (dk_at dksX2_soonest_4 0 rfl rfl)
abbrev cX2_comesStill : ByteArray := prog_19_method_96_code
def yX2_comesStill : MethodName := ⟨RX2, "comesStill", "(II)Z"⟩
def dkwX2_comesStill_1 : List UInt8 := [167, 255, 238, 42, 182, 1, 91, 62, 42, 182, 1, 126, 29, 172]
abbrev dktX2_comesStill_1 : List UInt8 := dkwX2_comesStill_1 ++ []
def dkwX2_comesStill_0 : List UInt8 := [42, 182, 1, 123, 3, 62, 29, 28, 162, 0, 19, 42, 27, 28, 29, 184, 1, 129, 182, 1, 76, 132, 3, 1]
abbrev dktX2_comesStill_0 : List UInt8 := dkwX2_comesStill_0 ++ dktX2_comesStill_1
theorem dksX2_comesStill_0 : cX2_comesStill.data.toList.drop 0 = dktX2_comesStill_0 := by decide +kernel
theorem dksX2_comesStill_1 : cX2_comesStill.data.toList.drop 24 = dktX2_comesStill_1 := dk_seg dksX2_comesStill_0 24 rfl rfl
theorem dX2_comesStill_0 : decode cX2_comesStill 0 = .ok (.aload_n 0, 1) := dk_42 (dk_at dksX2_comesStill_0 0 rfl rfl)
theorem dX2_comesStill_1 : decode cX2_comesStill 1 = .ok (.invokevirtual 379, 3) := dk_182 1 123 (dk_at dksX2_comesStill_0 1 rfl rfl)
theorem dX2_comesStill_4 : decode cX2_comesStill 4 = .ok (.iconst 0, 1) := dk_3 (dk_at dksX2_comesStill_0 4 rfl rfl)
theorem dX2_comesStill_5 : decode cX2_comesStill 5 = .ok (.istore_n 3, 1) := dk_62 (dk_at dksX2_comesStill_0 5 rfl rfl)
theorem dX2_comesStill_6 : decode cX2_comesStill 6 = .ok (.iload_n 3, 1) := dk_29 (dk_at dksX2_comesStill_0 6 rfl rfl)
theorem dX2_comesStill_7 : decode cX2_comesStill 7 = .ok (.iload_n 2, 1) := dk_28 (dk_at dksX2_comesStill_0 7 rfl rfl)
theorem dX2_comesStill_8 : decode cX2_comesStill 8 = .ok (.if_icmp .ge 19, 3) := dk_162 0 19 (dk_at dksX2_comesStill_0 8 rfl rfl)
theorem dX2_comesStill_11 : decode cX2_comesStill 11 = .ok (.aload_n 0, 1) := dk_42 (dk_at dksX2_comesStill_0 11 rfl rfl)
theorem dX2_comesStill_12 : decode cX2_comesStill 12 = .ok (.iload_n 1, 1) := dk_27 (dk_at dksX2_comesStill_0 12 rfl rfl)
theorem dX2_comesStill_13 : decode cX2_comesStill 13 = .ok (.iload_n 2, 1) := dk_28 (dk_at dksX2_comesStill_0 13 rfl rfl)
theorem dX2_comesStill_14 : decode cX2_comesStill 14 = .ok (.iload_n 3, 1) := dk_29 (dk_at dksX2_comesStill_0 14 rfl rfl)
theorem dX2_comesStill_15 : decode cX2_comesStill 15 = .ok (.invokestatic 385, 3) := dk_184 1 129 (dk_at dksX2_comesStill_0 15 rfl rfl)
theorem dX2_comesStill_18 : decode cX2_comesStill 18 = .ok (.invokevirtual 332, 3) := dk_182 1 76 (dk_at dksX2_comesStill_0 18 rfl rfl)
theorem dX2_comesStill_21 : decode cX2_comesStill 21 = .ok (.iinc 3 1, 3) := dk_132 3 1 (dk_at dksX2_comesStill_0 21 rfl rfl)
theorem dX2_comesStill_24 : decode cX2_comesStill 24 = .ok (.goto (-18), 3) := dk_167 255 238 (dk_at dksX2_comesStill_1 0 rfl rfl)
theorem dX2_comesStill_27 : decode cX2_comesStill 27 = .ok (.aload_n 0, 1) := dk_42 (dk_at dksX2_comesStill_1 3 rfl rfl)
theorem dX2_comesStill_28 : decode cX2_comesStill 28 = .ok (.invokevirtual 347, 3) := dk_182 1 91 (dk_at dksX2_comesStill_1 4 rfl rfl)
theorem dX2_comesStill_31 : decode cX2_comesStill 31 = .ok (.istore_n 3, 1) := dk_62 (dk_at dksX2_comesStill_1 7 rfl rfl)
theorem dX2_comesStill_32 : decode cX2_comesStill 32 = .ok (.aload_n 0, 1) := dk_42 (dk_at dksX2_comesStill_1 8 rfl rfl)
theorem dX2_comesStill_33 : decode cX2_comesStill 33 = .ok (.invokevirtual 382, 3) := dk_182 1 126 (dk_at dksX2_comesStill_1 9 rfl rfl)
theorem dX2_comesStill_36 : decode cX2_comesStill 36 = .ok (.iload_n 3, 1) := dk_29 (dk_at dksX2_comesStill_1 12 rfl rfl)
theorem dX2_comesStill_37 : decode cX2_comesStill 37 = .ok (.ireturn, 1) := dk_172 (dk_at dksX2_comesStill_1 13 rfl rfl)
abbrev cX2_digitOf : ByteArray := prog_19_method_95_code
def yX2_digitOf : MethodName := ⟨RX2, "digitOf", "(III)I"⟩
def dkwX2_digitOf_1 : List UInt8 := [6, 112, 4, 100, 172]
abbrev dktX2_digitOf_1 : List UInt8 := dkwX2_digitOf_1 ++ []
def dkwX2_digitOf_0 : List UInt8 := [26, 62, 27, 4, 100, 54, 4, 21, 4, 28, 164, 0, 13, 29, 6, 108, 62, 132, 4, 255, 167, 255, 243, 29]
abbrev dktX2_digitOf_0 : List UInt8 := dkwX2_digitOf_0 ++ dktX2_digitOf_1
theorem dksX2_digitOf_0 : cX2_digitOf.data.toList.drop 0 = dktX2_digitOf_0 := by decide +kernel
theorem dksX2_digitOf_1 : cX2_digitOf.data.toList.drop 24 = dktX2_digitOf_1 := dk_seg dksX2_digitOf_0 24 rfl rfl
theorem dX2_digitOf_0 : decode cX2_digitOf 0 = .ok (.iload_n 0, 1) := dk_26 (dk_at dksX2_digitOf_0 0 rfl rfl)
theorem dX2_digitOf_1 : decode cX2_digitOf 1 = .ok (.istore_n 3, 1) := dk_62 (dk_at dksX2_digitOf_0 1 rfl rfl)
theorem dX2_digitOf_2 : decode cX2_digitOf 2 = .ok (.iload_n 1, 1) := dk_27 (dk_at dksX2_digitOf_0 2 rfl rfl)
theorem dX2_digitOf_3 : decode cX2_digitOf 3 = .ok (.iconst 1, 1) := dk_4 (dk_at dksX2_digitOf_0 3 rfl rfl)
theorem dX2_digitOf_4 : decode cX2_digitOf 4 = .ok (.isub, 1) := dk_100 (dk_at dksX2_digitOf_0 4 rfl rfl)
theorem dX2_digitOf_5 : decode cX2_digitOf 5 = .ok (.istore 4, 2) := dk_54 4 (dk_at dksX2_digitOf_0 5 rfl rfl)
theorem dX2_digitOf_7 : decode cX2_digitOf 7 = .ok (.iload 4, 2) := dk_21 4 (dk_at dksX2_digitOf_0 7 rfl rfl)
theorem dX2_digitOf_9 : decode cX2_digitOf 9 = .ok (.iload_n 2, 1) := dk_28 (dk_at dksX2_digitOf_0 9 rfl rfl)
theorem dX2_digitOf_10 : decode cX2_digitOf 10 = .ok (.if_icmp .le 13, 3) := dk_164 0 13 (dk_at dksX2_digitOf_0 10 rfl rfl)
theorem dX2_digitOf_13 : decode cX2_digitOf 13 = .ok (.iload_n 3, 1) := dk_29 (dk_at dksX2_digitOf_0 13 rfl rfl)
theorem dX2_digitOf_14 : decode cX2_digitOf 14 = .ok (.iconst 3, 1) := dk_6 (dk_at dksX2_digitOf_0 14 rfl rfl)
theorem dX2_digitOf_15 : decode cX2_digitOf 15 = .ok (.idiv, 1) := dk_108 (dk_at dksX2_digitOf_0 15 rfl rfl)
theorem dX2_digitOf_16 : decode cX2_digitOf 16 = .ok (.istore_n 3, 1) := dk_62 (dk_at dksX2_digitOf_0 16 rfl rfl)
theorem dX2_digitOf_17 : decode cX2_digitOf 17 = .ok (.iinc 4 (-1), 3) := dk_132 4 255 (dk_at dksX2_digitOf_0 17 rfl rfl)
theorem dX2_digitOf_20 : decode cX2_digitOf 20 = .ok (.goto (-13), 3) := dk_167 255 243 (dk_at dksX2_digitOf_0 20 rfl rfl)
theorem dX2_digitOf_23 : decode cX2_digitOf 23 = .ok (.iload_n 3, 1) := dk_29 (dk_at dksX2_digitOf_0 23 rfl rfl)
theorem dX2_digitOf_24 : decode cX2_digitOf 24 = .ok (.iconst 3, 1) := dk_6 (dk_at dksX2_digitOf_1 0 rfl rfl)
theorem dX2_digitOf_25 : decode cX2_digitOf 25 = .ok (.irem, 1) := dk_112 (dk_at dksX2_digitOf_1 1 rfl rfl)
theorem dX2_digitOf_26 : decode cX2_digitOf 26 = .ok (.iconst 1, 1) := dk_4 (dk_at dksX2_digitOf_1 2 rfl rfl)
theorem dX2_digitOf_27 : decode cX2_digitOf 27 = .ok (.isub, 1) := dk_100 (dk_at dksX2_digitOf_1 3 rfl rfl)
theorem dX2_digitOf_28 : decode cX2_digitOf 28 = .ok (.ireturn, 1) := dk_172 (dk_at dksX2_digitOf_1 4 rfl rfl)
abbrev cX2_fewest : ByteArray := prog_19_method_99_code
def yX2_fewest : MethodName := ⟨RX2, "fewest", "(I)I"⟩
def dkwX2_fewest_5 : List UInt8 := [167, 0, 21, 27, 21, 4, 162, 0, 13, 29, 21, 4, 27, 184, 1, 129, 167, 0, 5, 16, 254, 172]
abbrev dktX2_fewest_5 : List UInt8 := dkwX2_fewest_5 ++ []
def dkwX2_fewest_4 : List UInt8 := [132, 6, 1, 167, 255, 184, 28, 19, 1, 135, 160, 0, 6, 16, 254, 172, 27, 2, 160, 0, 7, 28]
abbrev dktX2_fewest_4 : List UInt8 := dkwX2_fewest_4 ++ dktX2_fewest_5
def dkwX2_fewest_3 : List UInt8 := [184, 1, 136, 61, 21, 7, 62, 21, 6, 54, 4, 132, 7, 1, 167, 255, 206, 21, 5, 6, 104, 54, 5]
abbrev dktX2_fewest_3 : List UInt8 := dkwX2_fewest_3 ++ dktX2_fewest_4
def dkwX2_fewest_2 : List UInt8 := [28, 162, 0, 32, 42, 21, 7, 21, 6, 182, 1, 132, 154, 0, 6, 167, 0, 18, 21, 7, 21, 6]
abbrev dktX2_fewest_2 : List UInt8 := dkwX2_fewest_2 ++ dktX2_fewest_3
def dkwX2_fewest_1 : List UInt8 := [21, 6, 16, 8, 162, 0, 71, 3, 54, 7, 21, 7, 21, 5, 162, 0, 49, 21, 7, 21, 6, 184, 1, 136]
abbrev dktX2_fewest_1 : List UInt8 := dkwX2_fewest_1 ++ dktX2_fewest_2
def dkwX2_fewest_0 : List UInt8 := [27, 2, 162, 0, 6, 16, 254, 172, 19, 1, 135, 61, 3, 62, 3, 54, 4, 4, 54, 5, 3, 54, 6]
abbrev dktX2_fewest_0 : List UInt8 := dkwX2_fewest_0 ++ dktX2_fewest_1
theorem dksX2_fewest_0 : cX2_fewest.data.toList.drop 0 = dktX2_fewest_0 := by decide +kernel
theorem dksX2_fewest_1 : cX2_fewest.data.toList.drop 23 = dktX2_fewest_1 := dk_seg dksX2_fewest_0 23 rfl rfl
theorem dksX2_fewest_2 : cX2_fewest.data.toList.drop 47 = dktX2_fewest_2 := dk_seg dksX2_fewest_1 24 rfl rfl
theorem dksX2_fewest_3 : cX2_fewest.data.toList.drop 69 = dktX2_fewest_3 := dk_seg dksX2_fewest_2 22 rfl rfl
theorem dksX2_fewest_4 : cX2_fewest.data.toList.drop 92 = dktX2_fewest_4 := dk_seg dksX2_fewest_3 23 rfl rfl
theorem dksX2_fewest_5 : cX2_fewest.data.toList.drop 114 = dktX2_fewest_5 := dk_seg dksX2_fewest_4 22 rfl rfl
theorem dX2_fewest_0 : decode cX2_fewest 0 = .ok (.iload_n 1, 1) := dk_27 (dk_at dksX2_fewest_0 0 rfl rfl)
theorem dX2_fewest_1 : decode cX2_fewest 1 = .ok (.iconst (-1), 1) := dk_2 (dk_at dksX2_fewest_0 1 rfl rfl)
theorem dX2_fewest_2 : decode cX2_fewest 2 = .ok (.if_icmp .ge 6, 3) := dk_162 0 6 (dk_at dksX2_fewest_0 2 rfl rfl)
theorem dX2_fewest_5 : decode cX2_fewest 5 = .ok (.bipush (-2), 2) := dk_16 254 (dk_at dksX2_fewest_0 5 rfl rfl)
theorem dX2_fewest_7 : decode cX2_fewest 7 = .ok (.ireturn, 1) := dk_172 (dk_at dksX2_fewest_0 7 rfl rfl)
theorem dX2_fewest_8 : decode cX2_fewest 8 = .ok (.ldc_w 391, 3) := dk_19 1 135 (dk_at dksX2_fewest_0 8 rfl rfl)
theorem dX2_fewest_11 : decode cX2_fewest 11 = .ok (.istore_n 2, 1) := dk_61 (dk_at dksX2_fewest_0 11 rfl rfl)
theorem dX2_fewest_12 : decode cX2_fewest 12 = .ok (.iconst 0, 1) := dk_3 (dk_at dksX2_fewest_0 12 rfl rfl)
theorem dX2_fewest_13 : decode cX2_fewest 13 = .ok (.istore_n 3, 1) := dk_62 (dk_at dksX2_fewest_0 13 rfl rfl)
theorem dX2_fewest_14 : decode cX2_fewest 14 = .ok (.iconst 0, 1) := dk_3 (dk_at dksX2_fewest_0 14 rfl rfl)
theorem dX2_fewest_15 : decode cX2_fewest 15 = .ok (.istore 4, 2) := dk_54 4 (dk_at dksX2_fewest_0 15 rfl rfl)
theorem dX2_fewest_17 : decode cX2_fewest 17 = .ok (.iconst 1, 1) := dk_4 (dk_at dksX2_fewest_0 17 rfl rfl)
theorem dX2_fewest_18 : decode cX2_fewest 18 = .ok (.istore 5, 2) := dk_54 5 (dk_at dksX2_fewest_0 18 rfl rfl)
theorem dX2_fewest_20 : decode cX2_fewest 20 = .ok (.iconst 0, 1) := dk_3 (dk_at dksX2_fewest_0 20 rfl rfl)
theorem dX2_fewest_21 : decode cX2_fewest 21 = .ok (.istore 6, 2) := dk_54 6 (dk_at dksX2_fewest_0 21 rfl rfl)
theorem dX2_fewest_23 : decode cX2_fewest 23 = .ok (.iload 6, 2) := dk_21 6 (dk_at dksX2_fewest_1 0 rfl rfl)
theorem dX2_fewest_25 : decode cX2_fewest 25 = .ok (.bipush 8, 2) := dk_16 8 (dk_at dksX2_fewest_1 2 rfl rfl)
theorem dX2_fewest_27 : decode cX2_fewest 27 = .ok (.if_icmp .ge 71, 3) := dk_162 0 71 (dk_at dksX2_fewest_1 4 rfl rfl)
theorem dX2_fewest_30 : decode cX2_fewest 30 = .ok (.iconst 0, 1) := dk_3 (dk_at dksX2_fewest_1 7 rfl rfl)
theorem dX2_fewest_31 : decode cX2_fewest 31 = .ok (.istore 7, 2) := dk_54 7 (dk_at dksX2_fewest_1 8 rfl rfl)
theorem dX2_fewest_33 : decode cX2_fewest 33 = .ok (.iload 7, 2) := dk_21 7 (dk_at dksX2_fewest_1 10 rfl rfl)
theorem dX2_fewest_35 : decode cX2_fewest 35 = .ok (.iload 5, 2) := dk_21 5 (dk_at dksX2_fewest_1 12 rfl rfl)
theorem dX2_fewest_37 : decode cX2_fewest 37 = .ok (.if_icmp .ge 49, 3) := dk_162 0 49 (dk_at dksX2_fewest_1 14 rfl rfl)
theorem dX2_fewest_40 : decode cX2_fewest 40 = .ok (.iload 7, 2) := dk_21 7 (dk_at dksX2_fewest_1 17 rfl rfl)
theorem dX2_fewest_42 : decode cX2_fewest 42 = .ok (.iload 6, 2) := dk_21 6 (dk_at dksX2_fewest_1 19 rfl rfl)
theorem dX2_fewest_44 : decode cX2_fewest 44 = .ok (.invokestatic 392, 3) := dk_184 1 136 (dk_at dksX2_fewest_1 21 rfl rfl)
theorem dX2_fewest_47 : decode cX2_fewest 47 = .ok (.iload_n 2, 1) := dk_28 (dk_at dksX2_fewest_2 0 rfl rfl)
theorem dX2_fewest_48 : decode cX2_fewest 48 = .ok (.if_icmp .ge 32, 3) := dk_162 0 32 (dk_at dksX2_fewest_2 1 rfl rfl)
theorem dX2_fewest_51 : decode cX2_fewest 51 = .ok (.aload_n 0, 1) := dk_42 (dk_at dksX2_fewest_2 4 rfl rfl)
theorem dX2_fewest_52 : decode cX2_fewest 52 = .ok (.iload 7, 2) := dk_21 7 (dk_at dksX2_fewest_2 5 rfl rfl)
theorem dX2_fewest_54 : decode cX2_fewest 54 = .ok (.iload 6, 2) := dk_21 6 (dk_at dksX2_fewest_2 7 rfl rfl)
theorem dX2_fewest_56 : decode cX2_fewest 56 = .ok (.invokevirtual 388, 3) := dk_182 1 132 (dk_at dksX2_fewest_2 9 rfl rfl)
theorem dX2_fewest_59 : decode cX2_fewest 59 = .ok (.ifCond .ne 6, 3) := dk_154 0 6 (dk_at dksX2_fewest_2 12 rfl rfl)
theorem dX2_fewest_62 : decode cX2_fewest 62 = .ok (.goto 18, 3) := dk_167 0 18 (dk_at dksX2_fewest_2 15 rfl rfl)
theorem dX2_fewest_65 : decode cX2_fewest 65 = .ok (.iload 7, 2) := dk_21 7 (dk_at dksX2_fewest_2 18 rfl rfl)
theorem dX2_fewest_67 : decode cX2_fewest 67 = .ok (.iload 6, 2) := dk_21 6 (dk_at dksX2_fewest_2 20 rfl rfl)
theorem dX2_fewest_69 : decode cX2_fewest 69 = .ok (.invokestatic 392, 3) := dk_184 1 136 (dk_at dksX2_fewest_3 0 rfl rfl)
theorem dX2_fewest_72 : decode cX2_fewest 72 = .ok (.istore_n 2, 1) := dk_61 (dk_at dksX2_fewest_3 3 rfl rfl)
theorem dX2_fewest_73 : decode cX2_fewest 73 = .ok (.iload 7, 2) := dk_21 7 (dk_at dksX2_fewest_3 4 rfl rfl)
theorem dX2_fewest_75 : decode cX2_fewest 75 = .ok (.istore_n 3, 1) := dk_62 (dk_at dksX2_fewest_3 6 rfl rfl)
theorem dX2_fewest_76 : decode cX2_fewest 76 = .ok (.iload 6, 2) := dk_21 6 (dk_at dksX2_fewest_3 7 rfl rfl)
theorem dX2_fewest_78 : decode cX2_fewest 78 = .ok (.istore 4, 2) := dk_54 4 (dk_at dksX2_fewest_3 9 rfl rfl)
theorem dX2_fewest_80 : decode cX2_fewest 80 = .ok (.iinc 7 1, 3) := dk_132 7 1 (dk_at dksX2_fewest_3 11 rfl rfl)
theorem dX2_fewest_83 : decode cX2_fewest 83 = .ok (.goto (-50), 3) := dk_167 255 206 (dk_at dksX2_fewest_3 14 rfl rfl)
theorem dX2_fewest_86 : decode cX2_fewest 86 = .ok (.iload 5, 2) := dk_21 5 (dk_at dksX2_fewest_3 17 rfl rfl)
theorem dX2_fewest_88 : decode cX2_fewest 88 = .ok (.iconst 3, 1) := dk_6 (dk_at dksX2_fewest_3 19 rfl rfl)
theorem dX2_fewest_89 : decode cX2_fewest 89 = .ok (.imul, 1) := dk_104 (dk_at dksX2_fewest_3 20 rfl rfl)
theorem dX2_fewest_90 : decode cX2_fewest 90 = .ok (.istore 5, 2) := dk_54 5 (dk_at dksX2_fewest_3 21 rfl rfl)
theorem dX2_fewest_92 : decode cX2_fewest 92 = .ok (.iinc 6 1, 3) := dk_132 6 1 (dk_at dksX2_fewest_4 0 rfl rfl)
theorem dX2_fewest_95 : decode cX2_fewest 95 = .ok (.goto (-72), 3) := dk_167 255 184 (dk_at dksX2_fewest_4 3 rfl rfl)
theorem dX2_fewest_98 : decode cX2_fewest 98 = .ok (.iload_n 2, 1) := dk_28 (dk_at dksX2_fewest_4 6 rfl rfl)
theorem dX2_fewest_99 : decode cX2_fewest 99 = .ok (.ldc_w 391, 3) := dk_19 1 135 (dk_at dksX2_fewest_4 7 rfl rfl)
theorem dX2_fewest_102 : decode cX2_fewest 102 = .ok (.if_icmp .ne 6, 3) := dk_160 0 6 (dk_at dksX2_fewest_4 10 rfl rfl)
theorem dX2_fewest_105 : decode cX2_fewest 105 = .ok (.bipush (-2), 2) := dk_16 254 (dk_at dksX2_fewest_4 13 rfl rfl)
theorem dX2_fewest_107 : decode cX2_fewest 107 = .ok (.ireturn, 1) := dk_172 (dk_at dksX2_fewest_4 15 rfl rfl)
theorem dX2_fewest_108 : decode cX2_fewest 108 = .ok (.iload_n 1, 1) := dk_27 (dk_at dksX2_fewest_4 16 rfl rfl)
theorem dX2_fewest_109 : decode cX2_fewest 109 = .ok (.iconst (-1), 1) := dk_2 (dk_at dksX2_fewest_4 17 rfl rfl)
theorem dX2_fewest_110 : decode cX2_fewest 110 = .ok (.if_icmp .ne 7, 3) := dk_160 0 7 (dk_at dksX2_fewest_4 18 rfl rfl)
theorem dX2_fewest_113 : decode cX2_fewest 113 = .ok (.iload_n 2, 1) := dk_28 (dk_at dksX2_fewest_4 21 rfl rfl)
theorem dX2_fewest_114 : decode cX2_fewest 114 = .ok (.goto 21, 3) := dk_167 0 21 (dk_at dksX2_fewest_5 0 rfl rfl)
theorem dX2_fewest_117 : decode cX2_fewest 117 = .ok (.iload_n 1, 1) := dk_27 (dk_at dksX2_fewest_5 3 rfl rfl)
theorem dX2_fewest_118 : decode cX2_fewest 118 = .ok (.iload 4, 2) := dk_21 4 (dk_at dksX2_fewest_5 4 rfl rfl)
theorem dX2_fewest_120 : decode cX2_fewest 120 = .ok (.if_icmp .ge 13, 3) := dk_162 0 13 (dk_at dksX2_fewest_5 6 rfl rfl)
theorem dX2_fewest_123 : decode cX2_fewest 123 = .ok (.iload_n 3, 1) := dk_29 (dk_at dksX2_fewest_5 9 rfl rfl)
theorem dX2_fewest_124 : decode cX2_fewest 124 = .ok (.iload 4, 2) := dk_21 4 (dk_at dksX2_fewest_5 10 rfl rfl)
theorem dX2_fewest_126 : decode cX2_fewest 126 = .ok (.iload_n 1, 1) := dk_27 (dk_at dksX2_fewest_5 12 rfl rfl)
theorem dX2_fewest_127 : decode cX2_fewest 127 = .ok (.invokestatic 385, 3) := dk_184 1 129 (dk_at dksX2_fewest_5 13 rfl rfl)
theorem dX2_fewest_130 : decode cX2_fewest 130 = .ok (.goto 5, 3) := dk_167 0 5 (dk_at dksX2_fewest_5 16 rfl rfl)
theorem dX2_fewest_133 : decode cX2_fewest 133 = .ok (.bipush (-2), 2) := dk_16 254 (dk_at dksX2_fewest_5 19 rfl rfl)
theorem dX2_fewest_135 : decode cX2_fewest 135 = .ok (.ireturn, 1) := dk_172 (dk_at dksX2_fewest_5 21 rfl rfl)
abbrev cX2_many : ByteArray := prog_19_method_98_code
def yX2_many : MethodName := ⟨RX2, "many", "(II)I"⟩
def dkwX2_many_1 : List UInt8 := [96, 61, 132, 3, 1, 167, 255, 231, 28, 172]
abbrev dktX2_many_1 : List UInt8 := dkwX2_many_1 ++ []
def dkwX2_many_0 : List UInt8 := [3, 61, 3, 62, 29, 27, 162, 0, 26, 28, 26, 27, 29, 184, 1, 129, 154, 0, 7, 3, 167, 0, 4, 4]
abbrev dktX2_many_0 : List UInt8 := dkwX2_many_0 ++ dktX2_many_1
theorem dksX2_many_0 : cX2_many.data.toList.drop 0 = dktX2_many_0 := by decide +kernel
theorem dksX2_many_1 : cX2_many.data.toList.drop 24 = dktX2_many_1 := dk_seg dksX2_many_0 24 rfl rfl
theorem dX2_many_0 : decode cX2_many 0 = .ok (.iconst 0, 1) := dk_3 (dk_at dksX2_many_0 0 rfl rfl)
theorem dX2_many_1 : decode cX2_many 1 = .ok (.istore_n 2, 1) := dk_61 (dk_at dksX2_many_0 1 rfl rfl)
theorem dX2_many_2 : decode cX2_many 2 = .ok (.iconst 0, 1) := dk_3 (dk_at dksX2_many_0 2 rfl rfl)
theorem dX2_many_3 : decode cX2_many 3 = .ok (.istore_n 3, 1) := dk_62 (dk_at dksX2_many_0 3 rfl rfl)
theorem dX2_many_4 : decode cX2_many 4 = .ok (.iload_n 3, 1) := dk_29 (dk_at dksX2_many_0 4 rfl rfl)
theorem dX2_many_5 : decode cX2_many 5 = .ok (.iload_n 1, 1) := dk_27 (dk_at dksX2_many_0 5 rfl rfl)
theorem dX2_many_6 : decode cX2_many 6 = .ok (.if_icmp .ge 26, 3) := dk_162 0 26 (dk_at dksX2_many_0 6 rfl rfl)
theorem dX2_many_9 : decode cX2_many 9 = .ok (.iload_n 2, 1) := dk_28 (dk_at dksX2_many_0 9 rfl rfl)
theorem dX2_many_10 : decode cX2_many 10 = .ok (.iload_n 0, 1) := dk_26 (dk_at dksX2_many_0 10 rfl rfl)
theorem dX2_many_11 : decode cX2_many 11 = .ok (.iload_n 1, 1) := dk_27 (dk_at dksX2_many_0 11 rfl rfl)
theorem dX2_many_12 : decode cX2_many 12 = .ok (.iload_n 3, 1) := dk_29 (dk_at dksX2_many_0 12 rfl rfl)
theorem dX2_many_13 : decode cX2_many 13 = .ok (.invokestatic 385, 3) := dk_184 1 129 (dk_at dksX2_many_0 13 rfl rfl)
theorem dX2_many_16 : decode cX2_many 16 = .ok (.ifCond .ne 7, 3) := dk_154 0 7 (dk_at dksX2_many_0 16 rfl rfl)
theorem dX2_many_19 : decode cX2_many 19 = .ok (.iconst 0, 1) := dk_3 (dk_at dksX2_many_0 19 rfl rfl)
theorem dX2_many_20 : decode cX2_many 20 = .ok (.goto 4, 3) := dk_167 0 4 (dk_at dksX2_many_0 20 rfl rfl)
theorem dX2_many_23 : decode cX2_many 23 = .ok (.iconst 1, 1) := dk_4 (dk_at dksX2_many_0 23 rfl rfl)
theorem dX2_many_24 : decode cX2_many 24 = .ok (.iadd, 1) := dk_96 (dk_at dksX2_many_1 0 rfl rfl)
theorem dX2_many_25 : decode cX2_many 25 = .ok (.istore_n 2, 1) := dk_61 (dk_at dksX2_many_1 1 rfl rfl)
theorem dX2_many_26 : decode cX2_many 26 = .ok (.iinc 3 1, 3) := dk_132 3 1 (dk_at dksX2_many_1 2 rfl rfl)
theorem dX2_many_29 : decode cX2_many 29 = .ok (.goto (-25), 3) := dk_167 255 231 (dk_at dksX2_many_1 5 rfl rfl)
theorem dX2_many_32 : decode cX2_many 32 = .ok (.iload_n 2, 1) := dk_28 (dk_at dksX2_many_1 8 rfl rfl)
theorem dX2_many_33 : decode cX2_many 33 = .ok (.ireturn, 1) := dk_172 (dk_at dksX2_many_1 9 rfl rfl)
abbrev cX2_toAndFro : ByteArray := prog_19_method_100_code
def yX2_toAndFro : MethodName := ⟨RX2, "toAndFro", "(I)I"⟩
def dkwX2_toAndFro_4 : List UInt8 := [160, 0, 7, 2, 167, 0, 6, 29, 28, 100, 172]
abbrev dktX2_toAndFro_4 : List UInt8 := dkwX2_toAndFro_4 ++ []
def dkwX2_toAndFro_3 : List UInt8 := [160, 0, 9, 21, 4, 61, 167, 0, 6, 21, 4, 62, 132, 4, 1, 167, 255, 194, 42, 182, 1, 126, 29, 2]
abbrev dktX2_toAndFro_3 : List UInt8 := dkwX2_toAndFro_3 ++ dktX2_toAndFro_4
def dkwX2_toAndFro_2 : List UInt8 := [54, 5, 42, 3, 182, 1, 76, 21, 5, 154, 0, 27, 42, 182, 1, 36, 157, 0, 6, 167, 0, 17, 28, 2]
abbrev dktX2_toAndFro_2 : List UInt8 := dkwX2_toAndFro_2 ++ dktX2_toAndFro_3
def dkwX2_toAndFro_1 : List UInt8 := [21, 4, 27, 163, 0, 62, 29, 2, 160, 0, 57, 42, 182, 1, 36, 158, 0, 7, 4, 167, 0, 4, 3]
abbrev dktX2_toAndFro_1 : List UInt8 := dkwX2_toAndFro_1 ++ dktX2_toAndFro_2
def dkwX2_toAndFro_0 : List UInt8 := [27, 5, 17, 0, 200, 184, 0, 71, 154, 0, 5, 2, 172, 42, 182, 1, 123, 2, 61, 2, 62, 4, 54, 4]
abbrev dktX2_toAndFro_0 : List UInt8 := dkwX2_toAndFro_0 ++ dktX2_toAndFro_1
theorem dksX2_toAndFro_0 : cX2_toAndFro.data.toList.drop 0 = dktX2_toAndFro_0 := by decide +kernel
theorem dksX2_toAndFro_1 : cX2_toAndFro.data.toList.drop 24 = dktX2_toAndFro_1 := dk_seg dksX2_toAndFro_0 24 rfl rfl
theorem dksX2_toAndFro_2 : cX2_toAndFro.data.toList.drop 47 = dktX2_toAndFro_2 := dk_seg dksX2_toAndFro_1 23 rfl rfl
theorem dksX2_toAndFro_3 : cX2_toAndFro.data.toList.drop 71 = dktX2_toAndFro_3 := dk_seg dksX2_toAndFro_2 24 rfl rfl
theorem dksX2_toAndFro_4 : cX2_toAndFro.data.toList.drop 95 = dktX2_toAndFro_4 := dk_seg dksX2_toAndFro_3 24 rfl rfl
theorem dX2_toAndFro_0 : decode cX2_toAndFro 0 = .ok (.iload_n 1, 1) := dk_27 (dk_at dksX2_toAndFro_0 0 rfl rfl)
theorem dX2_toAndFro_1 : decode cX2_toAndFro 1 = .ok (.iconst 2, 1) := dk_5 (dk_at dksX2_toAndFro_0 1 rfl rfl)
theorem dX2_toAndFro_2 : decode cX2_toAndFro 2 = .ok (.sipush 200, 3) := dk_17 0 200 (dk_at dksX2_toAndFro_0 2 rfl rfl)
theorem dX2_toAndFro_5 : decode cX2_toAndFro 5 = .ok (.invokestatic 71, 3) := dk_184 0 71 (dk_at dksX2_toAndFro_0 5 rfl rfl)
theorem dX2_toAndFro_8 : decode cX2_toAndFro 8 = .ok (.ifCond .ne 5, 3) := dk_154 0 5 (dk_at dksX2_toAndFro_0 8 rfl rfl)
theorem dX2_toAndFro_11 : decode cX2_toAndFro 11 = .ok (.iconst (-1), 1) := dk_2 (dk_at dksX2_toAndFro_0 11 rfl rfl)
theorem dX2_toAndFro_12 : decode cX2_toAndFro 12 = .ok (.ireturn, 1) := dk_172 (dk_at dksX2_toAndFro_0 12 rfl rfl)
theorem dX2_toAndFro_13 : decode cX2_toAndFro 13 = .ok (.aload_n 0, 1) := dk_42 (dk_at dksX2_toAndFro_0 13 rfl rfl)
theorem dX2_toAndFro_14 : decode cX2_toAndFro 14 = .ok (.invokevirtual 379, 3) := dk_182 1 123 (dk_at dksX2_toAndFro_0 14 rfl rfl)
theorem dX2_toAndFro_17 : decode cX2_toAndFro 17 = .ok (.iconst (-1), 1) := dk_2 (dk_at dksX2_toAndFro_0 17 rfl rfl)
theorem dX2_toAndFro_18 : decode cX2_toAndFro 18 = .ok (.istore_n 2, 1) := dk_61 (dk_at dksX2_toAndFro_0 18 rfl rfl)
theorem dX2_toAndFro_19 : decode cX2_toAndFro 19 = .ok (.iconst (-1), 1) := dk_2 (dk_at dksX2_toAndFro_0 19 rfl rfl)
theorem dX2_toAndFro_20 : decode cX2_toAndFro 20 = .ok (.istore_n 3, 1) := dk_62 (dk_at dksX2_toAndFro_0 20 rfl rfl)
theorem dX2_toAndFro_21 : decode cX2_toAndFro 21 = .ok (.iconst 1, 1) := dk_4 (dk_at dksX2_toAndFro_0 21 rfl rfl)
theorem dX2_toAndFro_22 : decode cX2_toAndFro 22 = .ok (.istore 4, 2) := dk_54 4 (dk_at dksX2_toAndFro_0 22 rfl rfl)
theorem dX2_toAndFro_24 : decode cX2_toAndFro 24 = .ok (.iload 4, 2) := dk_21 4 (dk_at dksX2_toAndFro_1 0 rfl rfl)
theorem dX2_toAndFro_26 : decode cX2_toAndFro 26 = .ok (.iload_n 1, 1) := dk_27 (dk_at dksX2_toAndFro_1 2 rfl rfl)
theorem dX2_toAndFro_27 : decode cX2_toAndFro 27 = .ok (.if_icmp .gt 62, 3) := dk_163 0 62 (dk_at dksX2_toAndFro_1 3 rfl rfl)
theorem dX2_toAndFro_30 : decode cX2_toAndFro 30 = .ok (.iload_n 3, 1) := dk_29 (dk_at dksX2_toAndFro_1 6 rfl rfl)
theorem dX2_toAndFro_31 : decode cX2_toAndFro 31 = .ok (.iconst (-1), 1) := dk_2 (dk_at dksX2_toAndFro_1 7 rfl rfl)
theorem dX2_toAndFro_32 : decode cX2_toAndFro 32 = .ok (.if_icmp .ne 57, 3) := dk_160 0 57 (dk_at dksX2_toAndFro_1 8 rfl rfl)
theorem dX2_toAndFro_35 : decode cX2_toAndFro 35 = .ok (.aload_n 0, 1) := dk_42 (dk_at dksX2_toAndFro_1 11 rfl rfl)
theorem dX2_toAndFro_36 : decode cX2_toAndFro 36 = .ok (.invokevirtual 292, 3) := dk_182 1 36 (dk_at dksX2_toAndFro_1 12 rfl rfl)
theorem dX2_toAndFro_39 : decode cX2_toAndFro 39 = .ok (.ifCond .le 7, 3) := dk_158 0 7 (dk_at dksX2_toAndFro_1 15 rfl rfl)
theorem dX2_toAndFro_42 : decode cX2_toAndFro 42 = .ok (.iconst 1, 1) := dk_4 (dk_at dksX2_toAndFro_1 18 rfl rfl)
theorem dX2_toAndFro_43 : decode cX2_toAndFro 43 = .ok (.goto 4, 3) := dk_167 0 4 (dk_at dksX2_toAndFro_1 19 rfl rfl)
theorem dX2_toAndFro_46 : decode cX2_toAndFro 46 = .ok (.iconst 0, 1) := dk_3 (dk_at dksX2_toAndFro_1 22 rfl rfl)
theorem dX2_toAndFro_47 : decode cX2_toAndFro 47 = .ok (.istore 5, 2) := dk_54 5 (dk_at dksX2_toAndFro_2 0 rfl rfl)
theorem dX2_toAndFro_49 : decode cX2_toAndFro 49 = .ok (.aload_n 0, 1) := dk_42 (dk_at dksX2_toAndFro_2 2 rfl rfl)
theorem dX2_toAndFro_50 : decode cX2_toAndFro 50 = .ok (.iconst 0, 1) := dk_3 (dk_at dksX2_toAndFro_2 3 rfl rfl)
theorem dX2_toAndFro_51 : decode cX2_toAndFro 51 = .ok (.invokevirtual 332, 3) := dk_182 1 76 (dk_at dksX2_toAndFro_2 4 rfl rfl)
theorem dX2_toAndFro_54 : decode cX2_toAndFro 54 = .ok (.iload 5, 2) := dk_21 5 (dk_at dksX2_toAndFro_2 7 rfl rfl)
theorem dX2_toAndFro_56 : decode cX2_toAndFro 56 = .ok (.ifCond .ne 27, 3) := dk_154 0 27 (dk_at dksX2_toAndFro_2 9 rfl rfl)
theorem dX2_toAndFro_59 : decode cX2_toAndFro 59 = .ok (.aload_n 0, 1) := dk_42 (dk_at dksX2_toAndFro_2 12 rfl rfl)
theorem dX2_toAndFro_60 : decode cX2_toAndFro 60 = .ok (.invokevirtual 292, 3) := dk_182 1 36 (dk_at dksX2_toAndFro_2 13 rfl rfl)
theorem dX2_toAndFro_63 : decode cX2_toAndFro 63 = .ok (.ifCond .gt 6, 3) := dk_157 0 6 (dk_at dksX2_toAndFro_2 16 rfl rfl)
theorem dX2_toAndFro_66 : decode cX2_toAndFro 66 = .ok (.goto 17, 3) := dk_167 0 17 (dk_at dksX2_toAndFro_2 19 rfl rfl)
theorem dX2_toAndFro_69 : decode cX2_toAndFro 69 = .ok (.iload_n 2, 1) := dk_28 (dk_at dksX2_toAndFro_2 22 rfl rfl)
theorem dX2_toAndFro_70 : decode cX2_toAndFro 70 = .ok (.iconst (-1), 1) := dk_2 (dk_at dksX2_toAndFro_2 23 rfl rfl)
theorem dX2_toAndFro_71 : decode cX2_toAndFro 71 = .ok (.if_icmp .ne 9, 3) := dk_160 0 9 (dk_at dksX2_toAndFro_3 0 rfl rfl)
theorem dX2_toAndFro_74 : decode cX2_toAndFro 74 = .ok (.iload 4, 2) := dk_21 4 (dk_at dksX2_toAndFro_3 3 rfl rfl)
theorem dX2_toAndFro_76 : decode cX2_toAndFro 76 = .ok (.istore_n 2, 1) := dk_61 (dk_at dksX2_toAndFro_3 5 rfl rfl)
theorem dX2_toAndFro_77 : decode cX2_toAndFro 77 = .ok (.goto 6, 3) := dk_167 0 6 (dk_at dksX2_toAndFro_3 6 rfl rfl)
theorem dX2_toAndFro_80 : decode cX2_toAndFro 80 = .ok (.iload 4, 2) := dk_21 4 (dk_at dksX2_toAndFro_3 9 rfl rfl)
theorem dX2_toAndFro_82 : decode cX2_toAndFro 82 = .ok (.istore_n 3, 1) := dk_62 (dk_at dksX2_toAndFro_3 11 rfl rfl)
theorem dX2_toAndFro_83 : decode cX2_toAndFro 83 = .ok (.iinc 4 1, 3) := dk_132 4 1 (dk_at dksX2_toAndFro_3 12 rfl rfl)
theorem dX2_toAndFro_86 : decode cX2_toAndFro 86 = .ok (.goto (-62), 3) := dk_167 255 194 (dk_at dksX2_toAndFro_3 15 rfl rfl)
theorem dX2_toAndFro_89 : decode cX2_toAndFro 89 = .ok (.aload_n 0, 1) := dk_42 (dk_at dksX2_toAndFro_3 18 rfl rfl)
theorem dX2_toAndFro_90 : decode cX2_toAndFro 90 = .ok (.invokevirtual 382, 3) := dk_182 1 126 (dk_at dksX2_toAndFro_3 19 rfl rfl)
theorem dX2_toAndFro_93 : decode cX2_toAndFro 93 = .ok (.iload_n 3, 1) := dk_29 (dk_at dksX2_toAndFro_3 22 rfl rfl)
theorem dX2_toAndFro_94 : decode cX2_toAndFro 94 = .ok (.iconst (-1), 1) := dk_2 (dk_at dksX2_toAndFro_3 23 rfl rfl)
theorem dX2_toAndFro_95 : decode cX2_toAndFro 95 = .ok (.if_icmp .ne 7, 3) := dk_160 0 7 (dk_at dksX2_toAndFro_4 0 rfl rfl)
theorem dX2_toAndFro_98 : decode cX2_toAndFro 98 = .ok (.iconst (-1), 1) := dk_2 (dk_at dksX2_toAndFro_4 3 rfl rfl)
theorem dX2_toAndFro_99 : decode cX2_toAndFro 99 = .ok (.goto 6, 3) := dk_167 0 6 (dk_at dksX2_toAndFro_4 4 rfl rfl)
theorem dX2_toAndFro_102 : decode cX2_toAndFro 102 = .ok (.iload_n 3, 1) := dk_29 (dk_at dksX2_toAndFro_4 7 rfl rfl)
theorem dX2_toAndFro_103 : decode cX2_toAndFro 103 = .ok (.iload_n 2, 1) := dk_28 (dk_at dksX2_toAndFro_4 8 rfl rfl)
theorem dX2_toAndFro_104 : decode cX2_toAndFro 104 = .ok (.isub, 1) := dk_100 (dk_at dksX2_toAndFro_4 9 rfl rfl)
theorem dX2_toAndFro_105 : decode cX2_toAndFro 105 = .ok (.ireturn, 1) := dk_172 (dk_at dksX2_toAndFro_4 10 rfl rfl)
abbrev cX2_calm : ByteArray := prog_19_method_101_code
def yX2_calm : MethodName := ⟨RX2, "calm", "(IIZ)J"⟩
def dkwX2_calm_3 : List UInt8 := [22, 4, 22, 4, 22, 6, 184, 1, 143, 109, 173]
abbrev dktX2_calm_3 : List UInt8 := dkwX2_calm_3 ++ []
def dkwX2_calm_2 : List UInt8 := [22, 6, 20, 1, 141, 105, 55, 6, 132, 8, 1, 167, 255, 230, 29, 153, 0, 8, 22, 6, 167, 0, 5]
abbrev dktX2_calm_2 : List UInt8 := dkwX2_calm_2 ++ dktX2_calm_3
def dkwX2_calm_1 : List UInt8 := [10, 55, 4, 10, 55, 6, 3, 54, 8, 21, 8, 27, 162, 0, 26, 22, 4, 28, 4, 96, 133, 105, 55, 4]
abbrev dktX2_calm_1 : List UInt8 := dkwX2_calm_1 ++ dktX2_calm_2
def dkwX2_calm_0 : List UInt8 := [27, 4, 16, 9, 184, 0, 71, 153, 0, 13, 28, 3, 16, 9, 184, 0, 71, 154, 0, 7, 20, 1, 139, 173]
abbrev dktX2_calm_0 : List UInt8 := dkwX2_calm_0 ++ dktX2_calm_1
theorem dksX2_calm_0 : cX2_calm.data.toList.drop 0 = dktX2_calm_0 := by decide +kernel
theorem dksX2_calm_1 : cX2_calm.data.toList.drop 24 = dktX2_calm_1 := dk_seg dksX2_calm_0 24 rfl rfl
theorem dksX2_calm_2 : cX2_calm.data.toList.drop 48 = dktX2_calm_2 := dk_seg dksX2_calm_1 24 rfl rfl
theorem dksX2_calm_3 : cX2_calm.data.toList.drop 71 = dktX2_calm_3 := dk_seg dksX2_calm_2 23 rfl rfl
theorem dX2_calm_0 : decode cX2_calm 0 = .ok (.iload_n 1, 1) := dk_27 (dk_at dksX2_calm_0 0 rfl rfl)
theorem dX2_calm_1 : decode cX2_calm 1 = .ok (.iconst 1, 1) := dk_4 (dk_at dksX2_calm_0 1 rfl rfl)
theorem dX2_calm_2 : decode cX2_calm 2 = .ok (.bipush 9, 2) := dk_16 9 (dk_at dksX2_calm_0 2 rfl rfl)
theorem dX2_calm_4 : decode cX2_calm 4 = .ok (.invokestatic 71, 3) := dk_184 0 71 (dk_at dksX2_calm_0 4 rfl rfl)
theorem dX2_calm_7 : decode cX2_calm 7 = .ok (.ifCond .eq 13, 3) := dk_153 0 13 (dk_at dksX2_calm_0 7 rfl rfl)
theorem dX2_calm_10 : decode cX2_calm 10 = .ok (.iload_n 2, 1) := dk_28 (dk_at dksX2_calm_0 10 rfl rfl)
theorem dX2_calm_11 : decode cX2_calm 11 = .ok (.iconst 0, 1) := dk_3 (dk_at dksX2_calm_0 11 rfl rfl)
theorem dX2_calm_12 : decode cX2_calm 12 = .ok (.bipush 9, 2) := dk_16 9 (dk_at dksX2_calm_0 12 rfl rfl)
theorem dX2_calm_14 : decode cX2_calm 14 = .ok (.invokestatic 71, 3) := dk_184 0 71 (dk_at dksX2_calm_0 14 rfl rfl)
theorem dX2_calm_17 : decode cX2_calm 17 = .ok (.ifCond .ne 7, 3) := dk_154 0 7 (dk_at dksX2_calm_0 17 rfl rfl)
theorem dX2_calm_20 : decode cX2_calm 20 = .ok (.ldc2_w 395, 3) := dk_20 1 139 (dk_at dksX2_calm_0 20 rfl rfl)
theorem dX2_calm_23 : decode cX2_calm 23 = .ok (.lreturn, 1) := dk_173 (dk_at dksX2_calm_0 23 rfl rfl)
theorem dX2_calm_24 : decode cX2_calm 24 = .ok (.lconst 1, 1) := dk_10 (dk_at dksX2_calm_1 0 rfl rfl)
theorem dX2_calm_25 : decode cX2_calm 25 = .ok (.lstore 4, 2) := dk_55 4 (dk_at dksX2_calm_1 1 rfl rfl)
theorem dX2_calm_27 : decode cX2_calm 27 = .ok (.lconst 1, 1) := dk_10 (dk_at dksX2_calm_1 3 rfl rfl)
theorem dX2_calm_28 : decode cX2_calm 28 = .ok (.lstore 6, 2) := dk_55 6 (dk_at dksX2_calm_1 4 rfl rfl)
theorem dX2_calm_30 : decode cX2_calm 30 = .ok (.iconst 0, 1) := dk_3 (dk_at dksX2_calm_1 6 rfl rfl)
theorem dX2_calm_31 : decode cX2_calm 31 = .ok (.istore 8, 2) := dk_54 8 (dk_at dksX2_calm_1 7 rfl rfl)
theorem dX2_calm_33 : decode cX2_calm 33 = .ok (.iload 8, 2) := dk_21 8 (dk_at dksX2_calm_1 9 rfl rfl)
theorem dX2_calm_35 : decode cX2_calm 35 = .ok (.iload_n 1, 1) := dk_27 (dk_at dksX2_calm_1 11 rfl rfl)
theorem dX2_calm_36 : decode cX2_calm 36 = .ok (.if_icmp .ge 26, 3) := dk_162 0 26 (dk_at dksX2_calm_1 12 rfl rfl)
theorem dX2_calm_39 : decode cX2_calm 39 = .ok (.lload 4, 2) := dk_22 4 (dk_at dksX2_calm_1 15 rfl rfl)
theorem dX2_calm_41 : decode cX2_calm 41 = .ok (.iload_n 2, 1) := dk_28 (dk_at dksX2_calm_1 17 rfl rfl)
theorem dX2_calm_42 : decode cX2_calm 42 = .ok (.iconst 1, 1) := dk_4 (dk_at dksX2_calm_1 18 rfl rfl)
theorem dX2_calm_43 : decode cX2_calm 43 = .ok (.iadd, 1) := dk_96 (dk_at dksX2_calm_1 19 rfl rfl)
theorem dX2_calm_44 : decode cX2_calm 44 = .ok (.i2l, 1) := dk_133 (dk_at dksX2_calm_1 20 rfl rfl)
theorem dX2_calm_45 : decode cX2_calm 45 = .ok (.lmul, 1) := dk_105 (dk_at dksX2_calm_1 21 rfl rfl)
theorem dX2_calm_46 : decode cX2_calm 46 = .ok (.lstore 4, 2) := dk_55 4 (dk_at dksX2_calm_1 22 rfl rfl)
theorem dX2_calm_48 : decode cX2_calm 48 = .ok (.lload 6, 2) := dk_22 6 (dk_at dksX2_calm_2 0 rfl rfl)
theorem dX2_calm_50 : decode cX2_calm 50 = .ok (.ldc2_w 397, 3) := dk_20 1 141 (dk_at dksX2_calm_2 2 rfl rfl)
theorem dX2_calm_53 : decode cX2_calm 53 = .ok (.lmul, 1) := dk_105 (dk_at dksX2_calm_2 5 rfl rfl)
theorem dX2_calm_54 : decode cX2_calm 54 = .ok (.lstore 6, 2) := dk_55 6 (dk_at dksX2_calm_2 6 rfl rfl)
theorem dX2_calm_56 : decode cX2_calm 56 = .ok (.iinc 8 1, 3) := dk_132 8 1 (dk_at dksX2_calm_2 8 rfl rfl)
theorem dX2_calm_59 : decode cX2_calm 59 = .ok (.goto (-26), 3) := dk_167 255 230 (dk_at dksX2_calm_2 11 rfl rfl)
theorem dX2_calm_62 : decode cX2_calm 62 = .ok (.iload_n 3, 1) := dk_29 (dk_at dksX2_calm_2 14 rfl rfl)
theorem dX2_calm_63 : decode cX2_calm 63 = .ok (.ifCond .eq 8, 3) := dk_153 0 8 (dk_at dksX2_calm_2 15 rfl rfl)
theorem dX2_calm_66 : decode cX2_calm 66 = .ok (.lload 6, 2) := dk_22 6 (dk_at dksX2_calm_2 18 rfl rfl)
theorem dX2_calm_68 : decode cX2_calm 68 = .ok (.goto 5, 3) := dk_167 0 5 (dk_at dksX2_calm_2 20 rfl rfl)
theorem dX2_calm_71 : decode cX2_calm 71 = .ok (.lload 4, 2) := dk_22 4 (dk_at dksX2_calm_3 0 rfl rfl)
theorem dX2_calm_73 : decode cX2_calm 73 = .ok (.lload 4, 2) := dk_22 4 (dk_at dksX2_calm_3 2 rfl rfl)
theorem dX2_calm_75 : decode cX2_calm 75 = .ok (.lload 6, 2) := dk_22 6 (dk_at dksX2_calm_3 4 rfl rfl)
theorem dX2_calm_77 : decode cX2_calm 77 = .ok (.invokestatic 399, 3) := dk_184 1 143 (dk_at dksX2_calm_3 6 rfl rfl)
theorem dX2_calm_80 : decode cX2_calm 80 = .ok (.ldiv, 1) := dk_109 (dk_at dksX2_calm_3 9 rfl rfl)
theorem dX2_calm_81 : decode cX2_calm 81 = .ok (.lreturn, 1) := dk_173 (dk_at dksX2_calm_3 10 rfl rfl)
abbrev cX2_common : ByteArray := prog_19_method_132_code
def yX2_common : MethodName := ⟨RX2, "common", "(JJ)J"⟩
def dkwX2_common_1 : List UInt8 := [22, 8, 55, 6, 167, 255, 234, 22, 4, 173]
abbrev dktX2_common_1 : List UInt8 := dkwX2_common_1 ++ []
def dkwX2_common_0 : List UInt8 := [30, 55, 4, 32, 55, 6, 22, 6, 9, 148, 153, 0, 21, 22, 4, 22, 6, 113, 55, 8, 22, 6, 55, 4]
abbrev dktX2_common_0 : List UInt8 := dkwX2_common_0 ++ dktX2_common_1
theorem dksX2_common_0 : cX2_common.data.toList.drop 0 = dktX2_common_0 := by decide +kernel
theorem dksX2_common_1 : cX2_common.data.toList.drop 24 = dktX2_common_1 := dk_seg dksX2_common_0 24 rfl rfl
theorem dX2_common_0 : decode cX2_common 0 = .ok (.lload_n 0, 1) := dk_30 (dk_at dksX2_common_0 0 rfl rfl)
theorem dX2_common_1 : decode cX2_common 1 = .ok (.lstore 4, 2) := dk_55 4 (dk_at dksX2_common_0 1 rfl rfl)
theorem dX2_common_3 : decode cX2_common 3 = .ok (.lload_n 2, 1) := dk_32 (dk_at dksX2_common_0 3 rfl rfl)
theorem dX2_common_4 : decode cX2_common 4 = .ok (.lstore 6, 2) := dk_55 6 (dk_at dksX2_common_0 4 rfl rfl)
theorem dX2_common_6 : decode cX2_common 6 = .ok (.lload 6, 2) := dk_22 6 (dk_at dksX2_common_0 6 rfl rfl)
theorem dX2_common_8 : decode cX2_common 8 = .ok (.lconst 0, 1) := dk_9 (dk_at dksX2_common_0 8 rfl rfl)
theorem dX2_common_9 : decode cX2_common 9 = .ok (.lcmp, 1) := dk_148 (dk_at dksX2_common_0 9 rfl rfl)
theorem dX2_common_10 : decode cX2_common 10 = .ok (.ifCond .eq 21, 3) := dk_153 0 21 (dk_at dksX2_common_0 10 rfl rfl)
theorem dX2_common_13 : decode cX2_common 13 = .ok (.lload 4, 2) := dk_22 4 (dk_at dksX2_common_0 13 rfl rfl)
theorem dX2_common_15 : decode cX2_common 15 = .ok (.lload 6, 2) := dk_22 6 (dk_at dksX2_common_0 15 rfl rfl)
theorem dX2_common_17 : decode cX2_common 17 = .ok (.lrem, 1) := dk_113 (dk_at dksX2_common_0 17 rfl rfl)
theorem dX2_common_18 : decode cX2_common 18 = .ok (.lstore 8, 2) := dk_55 8 (dk_at dksX2_common_0 18 rfl rfl)
theorem dX2_common_20 : decode cX2_common 20 = .ok (.lload 6, 2) := dk_22 6 (dk_at dksX2_common_0 20 rfl rfl)
theorem dX2_common_22 : decode cX2_common 22 = .ok (.lstore 4, 2) := dk_55 4 (dk_at dksX2_common_0 22 rfl rfl)
theorem dX2_common_24 : decode cX2_common 24 = .ok (.lload 8, 2) := dk_22 8 (dk_at dksX2_common_1 0 rfl rfl)
theorem dX2_common_26 : decode cX2_common 26 = .ok (.lstore 6, 2) := dk_55 6 (dk_at dksX2_common_1 2 rfl rfl)
theorem dX2_common_28 : decode cX2_common 28 = .ok (.goto (-22), 3) := dk_167 255 234 (dk_at dksX2_common_1 4 rfl rfl)
theorem dX2_common_31 : decode cX2_common 31 = .ok (.lload 4, 2) := dk_22 4 (dk_at dksX2_common_1 7 rfl rfl)
theorem dX2_common_33 : decode cX2_common 33 = .ok (.lreturn, 1) := dk_173 (dk_at dksX2_common_1 9 rfl rfl)
abbrev cX2_dies : ByteArray := prog_19_method_104_code
def yX2_dies : MethodName := ⟨RX2, "dies", "(II)I"⟩
def dkwX2_dies_2 : List UInt8 := [167, 0, 19, 42, 180, 1, 150, 42, 180, 1, 147, 164, 0, 7, 4, 167, 0, 4, 3, 172]
abbrev dktX2_dies_2 : List UInt8 := dkwX2_dies_2 ++ []
def dkwX2_dies_1 : List UInt8 := [160, 0, 6, 16, 254, 172, 42, 27, 28, 182, 1, 156, 42, 180, 1, 150, 42, 180, 1, 147, 162, 0, 7, 2]
abbrev dktX2_dies_1 : List UInt8 := dkwX2_dies_1 ++ dktX2_dies_2
def dkwX2_dies_0 : List UInt8 := [42, 27, 182, 1, 153, 153, 0, 21, 28, 5, 17, 0, 200, 184, 0, 71, 153, 0, 10, 28, 5, 112, 4]
abbrev dktX2_dies_0 : List UInt8 := dkwX2_dies_0 ++ dktX2_dies_1
theorem dksX2_dies_0 : cX2_dies.data.toList.drop 0 = dktX2_dies_0 := by decide +kernel
theorem dksX2_dies_1 : cX2_dies.data.toList.drop 23 = dktX2_dies_1 := dk_seg dksX2_dies_0 23 rfl rfl
theorem dksX2_dies_2 : cX2_dies.data.toList.drop 47 = dktX2_dies_2 := dk_seg dksX2_dies_1 24 rfl rfl
theorem dX2_dies_0 : decode cX2_dies 0 = .ok (.aload_n 0, 1) := dk_42 (dk_at dksX2_dies_0 0 rfl rfl)
theorem dX2_dies_1 : decode cX2_dies 1 = .ok (.iload_n 1, 1) := dk_27 (dk_at dksX2_dies_0 1 rfl rfl)
theorem dX2_dies_2 : decode cX2_dies 2 = .ok (.invokevirtual 409, 3) := dk_182 1 153 (dk_at dksX2_dies_0 2 rfl rfl)
theorem dX2_dies_5 : decode cX2_dies 5 = .ok (.ifCond .eq 21, 3) := dk_153 0 21 (dk_at dksX2_dies_0 5 rfl rfl)
theorem dX2_dies_8 : decode cX2_dies 8 = .ok (.iload_n 2, 1) := dk_28 (dk_at dksX2_dies_0 8 rfl rfl)
theorem dX2_dies_9 : decode cX2_dies 9 = .ok (.iconst 2, 1) := dk_5 (dk_at dksX2_dies_0 9 rfl rfl)
theorem dX2_dies_10 : decode cX2_dies 10 = .ok (.sipush 200, 3) := dk_17 0 200 (dk_at dksX2_dies_0 10 rfl rfl)
theorem dX2_dies_13 : decode cX2_dies 13 = .ok (.invokestatic 71, 3) := dk_184 0 71 (dk_at dksX2_dies_0 13 rfl rfl)
theorem dX2_dies_16 : decode cX2_dies 16 = .ok (.ifCond .eq 10, 3) := dk_153 0 10 (dk_at dksX2_dies_0 16 rfl rfl)
theorem dX2_dies_19 : decode cX2_dies 19 = .ok (.iload_n 2, 1) := dk_28 (dk_at dksX2_dies_0 19 rfl rfl)
theorem dX2_dies_20 : decode cX2_dies 20 = .ok (.iconst 2, 1) := dk_5 (dk_at dksX2_dies_0 20 rfl rfl)
theorem dX2_dies_21 : decode cX2_dies 21 = .ok (.irem, 1) := dk_112 (dk_at dksX2_dies_0 21 rfl rfl)
theorem dX2_dies_22 : decode cX2_dies 22 = .ok (.iconst 1, 1) := dk_4 (dk_at dksX2_dies_0 22 rfl rfl)
theorem dX2_dies_23 : decode cX2_dies 23 = .ok (.if_icmp .ne 6, 3) := dk_160 0 6 (dk_at dksX2_dies_1 0 rfl rfl)
theorem dX2_dies_26 : decode cX2_dies 26 = .ok (.bipush (-2), 2) := dk_16 254 (dk_at dksX2_dies_1 3 rfl rfl)
theorem dX2_dies_28 : decode cX2_dies 28 = .ok (.ireturn, 1) := dk_172 (dk_at dksX2_dies_1 5 rfl rfl)
theorem dX2_dies_29 : decode cX2_dies 29 = .ok (.aload_n 0, 1) := dk_42 (dk_at dksX2_dies_1 6 rfl rfl)
theorem dX2_dies_30 : decode cX2_dies 30 = .ok (.iload_n 1, 1) := dk_27 (dk_at dksX2_dies_1 7 rfl rfl)
theorem dX2_dies_31 : decode cX2_dies 31 = .ok (.iload_n 2, 1) := dk_28 (dk_at dksX2_dies_1 8 rfl rfl)
theorem dX2_dies_32 : decode cX2_dies 32 = .ok (.invokevirtual 412, 3) := dk_182 1 156 (dk_at dksX2_dies_1 9 rfl rfl)
theorem dX2_dies_35 : decode cX2_dies 35 = .ok (.aload_n 0, 1) := dk_42 (dk_at dksX2_dies_1 12 rfl rfl)
theorem dX2_dies_36 : decode cX2_dies 36 = .ok (.getfield 406, 3) := dk_180 1 150 (dk_at dksX2_dies_1 13 rfl rfl)
theorem dX2_dies_39 : decode cX2_dies 39 = .ok (.aload_n 0, 1) := dk_42 (dk_at dksX2_dies_1 16 rfl rfl)
theorem dX2_dies_40 : decode cX2_dies 40 = .ok (.getfield 403, 3) := dk_180 1 147 (dk_at dksX2_dies_1 17 rfl rfl)
theorem dX2_dies_43 : decode cX2_dies 43 = .ok (.if_icmp .ge 7, 3) := dk_162 0 7 (dk_at dksX2_dies_1 20 rfl rfl)
theorem dX2_dies_46 : decode cX2_dies 46 = .ok (.iconst (-1), 1) := dk_2 (dk_at dksX2_dies_1 23 rfl rfl)
theorem dX2_dies_47 : decode cX2_dies 47 = .ok (.goto 19, 3) := dk_167 0 19 (dk_at dksX2_dies_2 0 rfl rfl)
theorem dX2_dies_50 : decode cX2_dies 50 = .ok (.aload_n 0, 1) := dk_42 (dk_at dksX2_dies_2 3 rfl rfl)
theorem dX2_dies_51 : decode cX2_dies 51 = .ok (.getfield 406, 3) := dk_180 1 150 (dk_at dksX2_dies_2 4 rfl rfl)
theorem dX2_dies_54 : decode cX2_dies 54 = .ok (.aload_n 0, 1) := dk_42 (dk_at dksX2_dies_2 7 rfl rfl)
theorem dX2_dies_55 : decode cX2_dies 55 = .ok (.getfield 403, 3) := dk_180 1 147 (dk_at dksX2_dies_2 8 rfl rfl)
theorem dX2_dies_58 : decode cX2_dies 58 = .ok (.if_icmp .le 7, 3) := dk_164 0 7 (dk_at dksX2_dies_2 11 rfl rfl)
theorem dX2_dies_61 : decode cX2_dies 61 = .ok (.iconst 1, 1) := dk_4 (dk_at dksX2_dies_2 14 rfl rfl)
theorem dX2_dies_62 : decode cX2_dies 62 = .ok (.goto 4, 3) := dk_167 0 4 (dk_at dksX2_dies_2 15 rfl rfl)
theorem dX2_dies_65 : decode cX2_dies 65 = .ok (.iconst 0, 1) := dk_3 (dk_at dksX2_dies_2 18 rfl rfl)
theorem dX2_dies_66 : decode cX2_dies 66 = .ok (.ireturn, 1) := dk_172 (dk_at dksX2_dies_2 19 rfl rfl)
abbrev cX2_isText : ByteArray := prog_19_method_103_code
def yX2_isText : MethodName := ⟨RX2, "isText", "(I)Z"⟩
def dkwX2_isText_0 : List UInt8 := [27, 3, 42, 180, 0, 7, 6, 46, 4, 100, 184, 0, 71, 172]
abbrev dktX2_isText_0 : List UInt8 := dkwX2_isText_0 ++ []
theorem dksX2_isText_0 : cX2_isText.data.toList.drop 0 = dktX2_isText_0 := by decide +kernel
theorem dX2_isText_0 : decode cX2_isText 0 = .ok (.iload_n 1, 1) := dk_27 (dk_at dksX2_isText_0 0 rfl rfl)
theorem dX2_isText_1 : decode cX2_isText 1 = .ok (.iconst 0, 1) := dk_3 (dk_at dksX2_isText_0 1 rfl rfl)
theorem dX2_isText_2 : decode cX2_isText 2 = .ok (.aload_n 0, 1) := dk_42 (dk_at dksX2_isText_0 2 rfl rfl)
theorem dX2_isText_3 : decode cX2_isText 3 = .ok (.getfield 7, 3) := dk_180 0 7 (dk_at dksX2_isText_0 3 rfl rfl)
theorem dX2_isText_6 : decode cX2_isText 6 = .ok (.iconst 3, 1) := dk_6 (dk_at dksX2_isText_0 6 rfl rfl)
theorem dX2_isText_7 : decode cX2_isText 7 = .ok (.iaload, 1) := dk_46 (dk_at dksX2_isText_0 7 rfl rfl)
theorem dX2_isText_8 : decode cX2_isText 8 = .ok (.iconst 1, 1) := dk_4 (dk_at dksX2_isText_0 8 rfl rfl)
theorem dX2_isText_9 : decode cX2_isText 9 = .ok (.isub, 1) := dk_100 (dk_at dksX2_isText_0 9 rfl rfl)
theorem dX2_isText_10 : decode cX2_isText 10 = .ok (.invokestatic 71, 3) := dk_184 0 71 (dk_at dksX2_isText_0 10 rfl rfl)
theorem dX2_isText_13 : decode cX2_isText 13 = .ok (.ireturn, 1) := dk_172 (dk_at dksX2_isText_0 13 rfl rfl)
abbrev cX2_halves : ByteArray := prog_19_method_102_code
def yX2_halves : MethodName := ⟨RX2, "halves", "(II)V"⟩
def dkwX2_halves_4 : List UInt8 := [132, 3, 1, 167, 255, 176, 42, 182, 1, 126, 177]
abbrev dktX2_halves_4 : List UInt8 := dkwX2_halves_4 ++ []
def dkwX2_halves_3 : List UInt8 := [42, 21, 4, 42, 180, 1, 150, 164, 0, 8, 21, 4, 167, 0, 7, 42, 180, 1, 150, 181, 1, 150]
abbrev dktX2_halves_3 : List UInt8 := dkwX2_halves_3 ++ dktX2_halves_4
def dkwX2_halves_2 : List UInt8 := [21, 4, 42, 180, 1, 147, 164, 0, 8, 21, 4, 167, 0, 7, 42, 180, 1, 147, 181, 1, 147, 167, 0, 25]
abbrev dktX2_halves_2 : List UInt8 := dkwX2_halves_2 ++ dktX2_halves_3
def dkwX2_halves_1 : List UInt8 := [182, 1, 82, 182, 1, 76, 42, 182, 1, 36, 184, 1, 67, 54, 4, 5, 29, 104, 28, 163, 0, 28, 42]
abbrev dktX2_halves_1 : List UInt8 := dkwX2_halves_1 ++ dktX2_halves_2
def dkwX2_halves_0 : List UInt8 := [42, 182, 1, 123, 42, 3, 181, 1, 147, 42, 3, 181, 1, 150, 4, 62, 29, 28, 163, 0, 81, 42, 42, 27]
abbrev dktX2_halves_0 : List UInt8 := dkwX2_halves_0 ++ dktX2_halves_1
theorem dksX2_halves_0 : cX2_halves.data.toList.drop 0 = dktX2_halves_0 := by decide +kernel
theorem dksX2_halves_1 : cX2_halves.data.toList.drop 24 = dktX2_halves_1 := dk_seg dksX2_halves_0 24 rfl rfl
theorem dksX2_halves_2 : cX2_halves.data.toList.drop 47 = dktX2_halves_2 := dk_seg dksX2_halves_1 23 rfl rfl
theorem dksX2_halves_3 : cX2_halves.data.toList.drop 71 = dktX2_halves_3 := dk_seg dksX2_halves_2 24 rfl rfl
theorem dksX2_halves_4 : cX2_halves.data.toList.drop 93 = dktX2_halves_4 := dk_seg dksX2_halves_3 22 rfl rfl
theorem dX2_halves_0 : decode cX2_halves 0 = .ok (.aload_n 0, 1) := dk_42 (dk_at dksX2_halves_0 0 rfl rfl)
theorem dX2_halves_1 : decode cX2_halves 1 = .ok (.invokevirtual 379, 3) := dk_182 1 123 (dk_at dksX2_halves_0 1 rfl rfl)
theorem dX2_halves_4 : decode cX2_halves 4 = .ok (.aload_n 0, 1) := dk_42 (dk_at dksX2_halves_0 4 rfl rfl)
theorem dX2_halves_5 : decode cX2_halves 5 = .ok (.iconst 0, 1) := dk_3 (dk_at dksX2_halves_0 5 rfl rfl)
theorem dX2_halves_6 : decode cX2_halves 6 = .ok (.putfield 403, 3) := dk_181 1 147 (dk_at dksX2_halves_0 6 rfl rfl)
theorem dX2_halves_9 : decode cX2_halves 9 = .ok (.aload_n 0, 1) := dk_42 (dk_at dksX2_halves_0 9 rfl rfl)
theorem dX2_halves_10 : decode cX2_halves 10 = .ok (.iconst 0, 1) := dk_3 (dk_at dksX2_halves_0 10 rfl rfl)
theorem dX2_halves_11 : decode cX2_halves 11 = .ok (.putfield 406, 3) := dk_181 1 150 (dk_at dksX2_halves_0 11 rfl rfl)
theorem dX2_halves_14 : decode cX2_halves 14 = .ok (.iconst 1, 1) := dk_4 (dk_at dksX2_halves_0 14 rfl rfl)
theorem dX2_halves_15 : decode cX2_halves 15 = .ok (.istore_n 3, 1) := dk_62 (dk_at dksX2_halves_0 15 rfl rfl)
theorem dX2_halves_16 : decode cX2_halves 16 = .ok (.iload_n 3, 1) := dk_29 (dk_at dksX2_halves_0 16 rfl rfl)
theorem dX2_halves_17 : decode cX2_halves 17 = .ok (.iload_n 2, 1) := dk_28 (dk_at dksX2_halves_0 17 rfl rfl)
theorem dX2_halves_18 : decode cX2_halves 18 = .ok (.if_icmp .gt 81, 3) := dk_163 0 81 (dk_at dksX2_halves_0 18 rfl rfl)
theorem dX2_halves_21 : decode cX2_halves 21 = .ok (.aload_n 0, 1) := dk_42 (dk_at dksX2_halves_0 21 rfl rfl)
theorem dX2_halves_22 : decode cX2_halves 22 = .ok (.aload_n 0, 1) := dk_42 (dk_at dksX2_halves_0 22 rfl rfl)
theorem dX2_halves_23 : decode cX2_halves 23 = .ok (.iload_n 1, 1) := dk_27 (dk_at dksX2_halves_0 23 rfl rfl)
theorem dX2_halves_24 : decode cX2_halves 24 = .ok (.invokevirtual 338, 3) := dk_182 1 82 (dk_at dksX2_halves_1 0 rfl rfl)
theorem dX2_halves_27 : decode cX2_halves 27 = .ok (.invokevirtual 332, 3) := dk_182 1 76 (dk_at dksX2_halves_1 3 rfl rfl)
theorem dX2_halves_30 : decode cX2_halves 30 = .ok (.aload_n 0, 1) := dk_42 (dk_at dksX2_halves_1 6 rfl rfl)
theorem dX2_halves_31 : decode cX2_halves 31 = .ok (.invokevirtual 292, 3) := dk_182 1 36 (dk_at dksX2_halves_1 7 rfl rfl)
theorem dX2_halves_34 : decode cX2_halves 34 = .ok (.invokestatic 323, 3) := dk_184 1 67 (dk_at dksX2_halves_1 10 rfl rfl)
theorem dX2_halves_37 : decode cX2_halves 37 = .ok (.istore 4, 2) := dk_54 4 (dk_at dksX2_halves_1 13 rfl rfl)
theorem dX2_halves_39 : decode cX2_halves 39 = .ok (.iconst 2, 1) := dk_5 (dk_at dksX2_halves_1 15 rfl rfl)
theorem dX2_halves_40 : decode cX2_halves 40 = .ok (.iload_n 3, 1) := dk_29 (dk_at dksX2_halves_1 16 rfl rfl)
theorem dX2_halves_41 : decode cX2_halves 41 = .ok (.imul, 1) := dk_104 (dk_at dksX2_halves_1 17 rfl rfl)
theorem dX2_halves_42 : decode cX2_halves 42 = .ok (.iload_n 2, 1) := dk_28 (dk_at dksX2_halves_1 18 rfl rfl)
theorem dX2_halves_43 : decode cX2_halves 43 = .ok (.if_icmp .gt 28, 3) := dk_163 0 28 (dk_at dksX2_halves_1 19 rfl rfl)
theorem dX2_halves_46 : decode cX2_halves 46 = .ok (.aload_n 0, 1) := dk_42 (dk_at dksX2_halves_1 22 rfl rfl)
theorem dX2_halves_47 : decode cX2_halves 47 = .ok (.iload 4, 2) := dk_21 4 (dk_at dksX2_halves_2 0 rfl rfl)
theorem dX2_halves_49 : decode cX2_halves 49 = .ok (.aload_n 0, 1) := dk_42 (dk_at dksX2_halves_2 2 rfl rfl)
theorem dX2_halves_50 : decode cX2_halves 50 = .ok (.getfield 403, 3) := dk_180 1 147 (dk_at dksX2_halves_2 3 rfl rfl)
theorem dX2_halves_53 : decode cX2_halves 53 = .ok (.if_icmp .le 8, 3) := dk_164 0 8 (dk_at dksX2_halves_2 6 rfl rfl)
theorem dX2_halves_56 : decode cX2_halves 56 = .ok (.iload 4, 2) := dk_21 4 (dk_at dksX2_halves_2 9 rfl rfl)
theorem dX2_halves_58 : decode cX2_halves 58 = .ok (.goto 7, 3) := dk_167 0 7 (dk_at dksX2_halves_2 11 rfl rfl)
theorem dX2_halves_61 : decode cX2_halves 61 = .ok (.aload_n 0, 1) := dk_42 (dk_at dksX2_halves_2 14 rfl rfl)
theorem dX2_halves_62 : decode cX2_halves 62 = .ok (.getfield 403, 3) := dk_180 1 147 (dk_at dksX2_halves_2 15 rfl rfl)
theorem dX2_halves_65 : decode cX2_halves 65 = .ok (.putfield 403, 3) := dk_181 1 147 (dk_at dksX2_halves_2 18 rfl rfl)
theorem dX2_halves_68 : decode cX2_halves 68 = .ok (.goto 25, 3) := dk_167 0 25 (dk_at dksX2_halves_2 21 rfl rfl)
theorem dX2_halves_71 : decode cX2_halves 71 = .ok (.aload_n 0, 1) := dk_42 (dk_at dksX2_halves_3 0 rfl rfl)
theorem dX2_halves_72 : decode cX2_halves 72 = .ok (.iload 4, 2) := dk_21 4 (dk_at dksX2_halves_3 1 rfl rfl)
theorem dX2_halves_74 : decode cX2_halves 74 = .ok (.aload_n 0, 1) := dk_42 (dk_at dksX2_halves_3 3 rfl rfl)
theorem dX2_halves_75 : decode cX2_halves 75 = .ok (.getfield 406, 3) := dk_180 1 150 (dk_at dksX2_halves_3 4 rfl rfl)
theorem dX2_halves_78 : decode cX2_halves 78 = .ok (.if_icmp .le 8, 3) := dk_164 0 8 (dk_at dksX2_halves_3 7 rfl rfl)
theorem dX2_halves_81 : decode cX2_halves 81 = .ok (.iload 4, 2) := dk_21 4 (dk_at dksX2_halves_3 10 rfl rfl)
theorem dX2_halves_83 : decode cX2_halves 83 = .ok (.goto 7, 3) := dk_167 0 7 (dk_at dksX2_halves_3 12 rfl rfl)
theorem dX2_halves_86 : decode cX2_halves 86 = .ok (.aload_n 0, 1) := dk_42 (dk_at dksX2_halves_3 15 rfl rfl)
theorem dX2_halves_87 : decode cX2_halves 87 = .ok (.getfield 406, 3) := dk_180 1 150 (dk_at dksX2_halves_3 16 rfl rfl)
theorem dX2_halves_90 : decode cX2_halves 90 = .ok (.putfield 406, 3) := dk_181 1 150 (dk_at dksX2_halves_3 19 rfl rfl)
theorem dX2_halves_93 : decode cX2_halves 93 = .ok (.iinc 3 1, 3) := dk_132 3 1 (dk_at dksX2_halves_4 0 rfl rfl)
theorem dX2_halves_96 : decode cX2_halves 96 = .ok (.goto (-80), 3) := dk_167 255 176 (dk_at dksX2_halves_4 3 rfl rfl)
theorem dX2_halves_99 : decode cX2_halves 99 = .ok (.aload_n 0, 1) := dk_42 (dk_at dksX2_halves_4 6 rfl rfl)
theorem dX2_halves_100 : decode cX2_halves 100 = .ok (.invokevirtual 382, 3) := dk_182 1 126 (dk_at dksX2_halves_4 7 rfl rfl)
theorem dX2_halves_103 : decode cX2_halves 103 = .ok (.return_, 1) := dk_177 (dk_at dksX2_halves_4 10 rfl rfl)
abbrev cX2_calmest : ByteArray := prog_19_method_105_code
def yX2_calmest : MethodName := ⟨RX2, "calmest", "(I)I"⟩
def dkwX2_calmest_3 : List UInt8 := [161, 0, 6, 167, 0, 9, 21, 4, 61, 21, 5, 62, 132, 4, 1, 167, 255, 191, 28, 172]
abbrev dktX2_calmest_3 : List UInt8 := dkwX2_calmest_3 ++ []
def dkwX2_calmest_2 : List UInt8 := [164, 0, 10, 42, 180, 1, 147, 167, 0, 7, 42, 180, 1, 150, 54, 5, 28, 2, 159, 0, 12, 21, 5, 29]
abbrev dktX2_calmest_2 : List UInt8 := dkwX2_calmest_2 ++ dktX2_calmest_3
def dkwX2_calmest_1 : List UInt8 := [180, 0, 7, 6, 46, 162, 0, 60, 42, 21, 4, 27, 182, 1, 156, 42, 180, 1, 147, 42, 180, 1, 150]
abbrev dktX2_calmest_1 : List UInt8 := dkwX2_calmest_1 ++ dktX2_calmest_2
def dkwX2_calmest_0 : List UInt8 := [27, 4, 17, 0, 200, 184, 0, 71, 154, 0, 5, 2, 172, 2, 61, 3, 62, 3, 54, 4, 21, 4, 42]
abbrev dktX2_calmest_0 : List UInt8 := dkwX2_calmest_0 ++ dktX2_calmest_1
theorem dksX2_calmest_0 : cX2_calmest.data.toList.drop 0 = dktX2_calmest_0 := by decide +kernel
theorem dksX2_calmest_1 : cX2_calmest.data.toList.drop 23 = dktX2_calmest_1 := dk_seg dksX2_calmest_0 23 rfl rfl
theorem dksX2_calmest_2 : cX2_calmest.data.toList.drop 46 = dktX2_calmest_2 := dk_seg dksX2_calmest_1 23 rfl rfl
theorem dksX2_calmest_3 : cX2_calmest.data.toList.drop 70 = dktX2_calmest_3 := dk_seg dksX2_calmest_2 24 rfl rfl
theorem dX2_calmest_0 : decode cX2_calmest 0 = .ok (.iload_n 1, 1) := dk_27 (dk_at dksX2_calmest_0 0 rfl rfl)
theorem dX2_calmest_1 : decode cX2_calmest 1 = .ok (.iconst 1, 1) := dk_4 (dk_at dksX2_calmest_0 1 rfl rfl)
theorem dX2_calmest_2 : decode cX2_calmest 2 = .ok (.sipush 200, 3) := dk_17 0 200 (dk_at dksX2_calmest_0 2 rfl rfl)
theorem dX2_calmest_5 : decode cX2_calmest 5 = .ok (.invokestatic 71, 3) := dk_184 0 71 (dk_at dksX2_calmest_0 5 rfl rfl)
theorem dX2_calmest_8 : decode cX2_calmest 8 = .ok (.ifCond .ne 5, 3) := dk_154 0 5 (dk_at dksX2_calmest_0 8 rfl rfl)
theorem dX2_calmest_11 : decode cX2_calmest 11 = .ok (.iconst (-1), 1) := dk_2 (dk_at dksX2_calmest_0 11 rfl rfl)
theorem dX2_calmest_12 : decode cX2_calmest 12 = .ok (.ireturn, 1) := dk_172 (dk_at dksX2_calmest_0 12 rfl rfl)
theorem dX2_calmest_13 : decode cX2_calmest 13 = .ok (.iconst (-1), 1) := dk_2 (dk_at dksX2_calmest_0 13 rfl rfl)
theorem dX2_calmest_14 : decode cX2_calmest 14 = .ok (.istore_n 2, 1) := dk_61 (dk_at dksX2_calmest_0 14 rfl rfl)
theorem dX2_calmest_15 : decode cX2_calmest 15 = .ok (.iconst 0, 1) := dk_3 (dk_at dksX2_calmest_0 15 rfl rfl)
theorem dX2_calmest_16 : decode cX2_calmest 16 = .ok (.istore_n 3, 1) := dk_62 (dk_at dksX2_calmest_0 16 rfl rfl)
theorem dX2_calmest_17 : decode cX2_calmest 17 = .ok (.iconst 0, 1) := dk_3 (dk_at dksX2_calmest_0 17 rfl rfl)
theorem dX2_calmest_18 : decode cX2_calmest 18 = .ok (.istore 4, 2) := dk_54 4 (dk_at dksX2_calmest_0 18 rfl rfl)
theorem dX2_calmest_20 : decode cX2_calmest 20 = .ok (.iload 4, 2) := dk_21 4 (dk_at dksX2_calmest_0 20 rfl rfl)
theorem dX2_calmest_22 : decode cX2_calmest 22 = .ok (.aload_n 0, 1) := dk_42 (dk_at dksX2_calmest_0 22 rfl rfl)
theorem dX2_calmest_23 : decode cX2_calmest 23 = .ok (.getfield 7, 3) := dk_180 0 7 (dk_at dksX2_calmest_1 0 rfl rfl)
theorem dX2_calmest_26 : decode cX2_calmest 26 = .ok (.iconst 3, 1) := dk_6 (dk_at dksX2_calmest_1 3 rfl rfl)
theorem dX2_calmest_27 : decode cX2_calmest 27 = .ok (.iaload, 1) := dk_46 (dk_at dksX2_calmest_1 4 rfl rfl)
theorem dX2_calmest_28 : decode cX2_calmest 28 = .ok (.if_icmp .ge 60, 3) := dk_162 0 60 (dk_at dksX2_calmest_1 5 rfl rfl)
theorem dX2_calmest_31 : decode cX2_calmest 31 = .ok (.aload_n 0, 1) := dk_42 (dk_at dksX2_calmest_1 8 rfl rfl)
theorem dX2_calmest_32 : decode cX2_calmest 32 = .ok (.iload 4, 2) := dk_21 4 (dk_at dksX2_calmest_1 9 rfl rfl)
theorem dX2_calmest_34 : decode cX2_calmest 34 = .ok (.iload_n 1, 1) := dk_27 (dk_at dksX2_calmest_1 11 rfl rfl)
theorem dX2_calmest_35 : decode cX2_calmest 35 = .ok (.invokevirtual 412, 3) := dk_182 1 156 (dk_at dksX2_calmest_1 12 rfl rfl)
theorem dX2_calmest_38 : decode cX2_calmest 38 = .ok (.aload_n 0, 1) := dk_42 (dk_at dksX2_calmest_1 15 rfl rfl)
theorem dX2_calmest_39 : decode cX2_calmest 39 = .ok (.getfield 403, 3) := dk_180 1 147 (dk_at dksX2_calmest_1 16 rfl rfl)
theorem dX2_calmest_42 : decode cX2_calmest 42 = .ok (.aload_n 0, 1) := dk_42 (dk_at dksX2_calmest_1 19 rfl rfl)
theorem dX2_calmest_43 : decode cX2_calmest 43 = .ok (.getfield 406, 3) := dk_180 1 150 (dk_at dksX2_calmest_1 20 rfl rfl)
theorem dX2_calmest_46 : decode cX2_calmest 46 = .ok (.if_icmp .le 10, 3) := dk_164 0 10 (dk_at dksX2_calmest_2 0 rfl rfl)
theorem dX2_calmest_49 : decode cX2_calmest 49 = .ok (.aload_n 0, 1) := dk_42 (dk_at dksX2_calmest_2 3 rfl rfl)
theorem dX2_calmest_50 : decode cX2_calmest 50 = .ok (.getfield 403, 3) := dk_180 1 147 (dk_at dksX2_calmest_2 4 rfl rfl)
theorem dX2_calmest_53 : decode cX2_calmest 53 = .ok (.goto 7, 3) := dk_167 0 7 (dk_at dksX2_calmest_2 7 rfl rfl)
theorem dX2_calmest_56 : decode cX2_calmest 56 = .ok (.aload_n 0, 1) := dk_42 (dk_at dksX2_calmest_2 10 rfl rfl)
theorem dX2_calmest_57 : decode cX2_calmest 57 = .ok (.getfield 406, 3) := dk_180 1 150 (dk_at dksX2_calmest_2 11 rfl rfl)
theorem dX2_calmest_60 : decode cX2_calmest 60 = .ok (.istore 5, 2) := dk_54 5 (dk_at dksX2_calmest_2 14 rfl rfl)
theorem dX2_calmest_62 : decode cX2_calmest 62 = .ok (.iload_n 2, 1) := dk_28 (dk_at dksX2_calmest_2 16 rfl rfl)
theorem dX2_calmest_63 : decode cX2_calmest 63 = .ok (.iconst (-1), 1) := dk_2 (dk_at dksX2_calmest_2 17 rfl rfl)
theorem dX2_calmest_64 : decode cX2_calmest 64 = .ok (.if_icmp .eq 12, 3) := dk_159 0 12 (dk_at dksX2_calmest_2 18 rfl rfl)
theorem dX2_calmest_67 : decode cX2_calmest 67 = .ok (.iload 5, 2) := dk_21 5 (dk_at dksX2_calmest_2 21 rfl rfl)
theorem dX2_calmest_69 : decode cX2_calmest 69 = .ok (.iload_n 3, 1) := dk_29 (dk_at dksX2_calmest_2 23 rfl rfl)
theorem dX2_calmest_70 : decode cX2_calmest 70 = .ok (.if_icmp .lt 6, 3) := dk_161 0 6 (dk_at dksX2_calmest_3 0 rfl rfl)
theorem dX2_calmest_73 : decode cX2_calmest 73 = .ok (.goto 9, 3) := dk_167 0 9 (dk_at dksX2_calmest_3 3 rfl rfl)
theorem dX2_calmest_76 : decode cX2_calmest 76 = .ok (.iload 4, 2) := dk_21 4 (dk_at dksX2_calmest_3 6 rfl rfl)
theorem dX2_calmest_78 : decode cX2_calmest 78 = .ok (.istore_n 2, 1) := dk_61 (dk_at dksX2_calmest_3 8 rfl rfl)
theorem dX2_calmest_79 : decode cX2_calmest 79 = .ok (.iload 5, 2) := dk_21 5 (dk_at dksX2_calmest_3 9 rfl rfl)
theorem dX2_calmest_81 : decode cX2_calmest 81 = .ok (.istore_n 3, 1) := dk_62 (dk_at dksX2_calmest_3 11 rfl rfl)
theorem dX2_calmest_82 : decode cX2_calmest 82 = .ok (.iinc 4 1, 3) := dk_132 4 1 (dk_at dksX2_calmest_3 12 rfl rfl)
theorem dX2_calmest_85 : decode cX2_calmest 85 = .ok (.goto (-65), 3) := dk_167 255 191 (dk_at dksX2_calmest_3 15 rfl rfl)
theorem dX2_calmest_88 : decode cX2_calmest 88 = .ok (.iload_n 2, 1) := dk_28 (dk_at dksX2_calmest_3 18 rfl rfl)
theorem dX2_calmest_89 : decode cX2_calmest 89 = .ok (.ireturn, 1) := dk_172 (dk_at dksX2_calmest_3 19 rfl rfl)
abbrev cX2_whoseHand : ByteArray := prog_19_method_107_code
def yX2_whoseHand : MethodName := ⟨RX2, "whoseHand", "()I"⟩
def dkwX2_whoseHand_1 : List UInt8 := [28, 120, 167, 0, 4, 3, 128, 60, 132, 2, 1, 167, 255, 225, 27, 172]
abbrev dktX2_whoseHand_1 : List UInt8 := dkwX2_whoseHand_1 ++ []
def dkwX2_whoseHand_0 : List UInt8 := [3, 60, 3, 61, 28, 42, 180, 0, 7, 6, 46, 162, 0, 27, 27, 42, 28, 182, 1, 159, 153, 0, 9, 4]
abbrev dktX2_whoseHand_0 : List UInt8 := dkwX2_whoseHand_0 ++ dktX2_whoseHand_1
theorem dksX2_whoseHand_0 : cX2_whoseHand.data.toList.drop 0 = dktX2_whoseHand_0 := by decide +kernel
theorem dksX2_whoseHand_1 : cX2_whoseHand.data.toList.drop 24 = dktX2_whoseHand_1 := dk_seg dksX2_whoseHand_0 24 rfl rfl
theorem dX2_whoseHand_0 : decode cX2_whoseHand 0 = .ok (.iconst 0, 1) := dk_3 (dk_at dksX2_whoseHand_0 0 rfl rfl)
theorem dX2_whoseHand_1 : decode cX2_whoseHand 1 = .ok (.istore_n 1, 1) := dk_60 (dk_at dksX2_whoseHand_0 1 rfl rfl)
theorem dX2_whoseHand_2 : decode cX2_whoseHand 2 = .ok (.iconst 0, 1) := dk_3 (dk_at dksX2_whoseHand_0 2 rfl rfl)
theorem dX2_whoseHand_3 : decode cX2_whoseHand 3 = .ok (.istore_n 2, 1) := dk_61 (dk_at dksX2_whoseHand_0 3 rfl rfl)
theorem dX2_whoseHand_4 : decode cX2_whoseHand 4 = .ok (.iload_n 2, 1) := dk_28 (dk_at dksX2_whoseHand_0 4 rfl rfl)
theorem dX2_whoseHand_5 : decode cX2_whoseHand 5 = .ok (.aload_n 0, 1) := dk_42 (dk_at dksX2_whoseHand_0 5 rfl rfl)
theorem dX2_whoseHand_6 : decode cX2_whoseHand 6 = .ok (.getfield 7, 3) := dk_180 0 7 (dk_at dksX2_whoseHand_0 6 rfl rfl)
theorem dX2_whoseHand_9 : decode cX2_whoseHand 9 = .ok (.iconst 3, 1) := dk_6 (dk_at dksX2_whoseHand_0 9 rfl rfl)
theorem dX2_whoseHand_10 : decode cX2_whoseHand 10 = .ok (.iaload, 1) := dk_46 (dk_at dksX2_whoseHand_0 10 rfl rfl)
theorem dX2_whoseHand_11 : decode cX2_whoseHand 11 = .ok (.if_icmp .ge 27, 3) := dk_162 0 27 (dk_at dksX2_whoseHand_0 11 rfl rfl)
theorem dX2_whoseHand_14 : decode cX2_whoseHand 14 = .ok (.iload_n 1, 1) := dk_27 (dk_at dksX2_whoseHand_0 14 rfl rfl)
theorem dX2_whoseHand_15 : decode cX2_whoseHand 15 = .ok (.aload_n 0, 1) := dk_42 (dk_at dksX2_whoseHand_0 15 rfl rfl)
theorem dX2_whoseHand_16 : decode cX2_whoseHand 16 = .ok (.iload_n 2, 1) := dk_28 (dk_at dksX2_whoseHand_0 16 rfl rfl)
theorem dX2_whoseHand_17 : decode cX2_whoseHand 17 = .ok (.invokevirtual 415, 3) := dk_182 1 159 (dk_at dksX2_whoseHand_0 17 rfl rfl)
theorem dX2_whoseHand_20 : decode cX2_whoseHand 20 = .ok (.ifCond .eq 9, 3) := dk_153 0 9 (dk_at dksX2_whoseHand_0 20 rfl rfl)
theorem dX2_whoseHand_23 : decode cX2_whoseHand 23 = .ok (.iconst 1, 1) := dk_4 (dk_at dksX2_whoseHand_0 23 rfl rfl)
theorem dX2_whoseHand_24 : decode cX2_whoseHand 24 = .ok (.iload_n 2, 1) := dk_28 (dk_at dksX2_whoseHand_1 0 rfl rfl)
theorem dX2_whoseHand_25 : decode cX2_whoseHand 25 = .ok (.ishl, 1) := dk_120 (dk_at dksX2_whoseHand_1 1 rfl rfl)
theorem dX2_whoseHand_26 : decode cX2_whoseHand 26 = .ok (.goto 4, 3) := dk_167 0 4 (dk_at dksX2_whoseHand_1 2 rfl rfl)
theorem dX2_whoseHand_29 : decode cX2_whoseHand 29 = .ok (.iconst 0, 1) := dk_3 (dk_at dksX2_whoseHand_1 5 rfl rfl)
theorem dX2_whoseHand_30 : decode cX2_whoseHand 30 = .ok (.ior, 1) := dk_128 (dk_at dksX2_whoseHand_1 6 rfl rfl)
theorem dX2_whoseHand_31 : decode cX2_whoseHand 31 = .ok (.istore_n 1, 1) := dk_60 (dk_at dksX2_whoseHand_1 7 rfl rfl)
theorem dX2_whoseHand_32 : decode cX2_whoseHand 32 = .ok (.iinc 2 1, 3) := dk_132 2 1 (dk_at dksX2_whoseHand_1 8 rfl rfl)
theorem dX2_whoseHand_35 : decode cX2_whoseHand 35 = .ok (.goto (-31), 3) := dk_167 255 225 (dk_at dksX2_whoseHand_1 11 rfl rfl)
theorem dX2_whoseHand_38 : decode cX2_whoseHand 38 = .ok (.iload_n 1, 1) := dk_27 (dk_at dksX2_whoseHand_1 14 rfl rfl)
theorem dX2_whoseHand_39 : decode cX2_whoseHand 39 = .ok (.ireturn, 1) := dk_172 (dk_at dksX2_whoseHand_1 15 rfl rfl)
abbrev cX2_isHandOf : ByteArray := prog_19_method_106_code
def yX2_isHandOf : MethodName := ⟨RX2, "isHandOf", "(I)Z"⟩
def dkwX2_isHandOf_4 : List UInt8 := [182, 1, 70, 42, 28, 8, 182, 1, 13, 159, 0, 5, 3, 172, 132, 2, 1, 167, 255, 196, 4, 172]
abbrev dktX2_isHandOf_4 : List UInt8 := dkwX2_isHandOf_4 ++ []
def dkwX2_isHandOf_3 : List UInt8 := [180, 0, 32, 29, 42, 28, 29, 182, 1, 13, 79, 132, 3, 1, 167, 255, 236, 42, 28, 181, 1, 7, 42, 27]
abbrev dktX2_isHandOf_3 : List UInt8 := dkwX2_isHandOf_3 ++ dktX2_isHandOf_4
def dkwX2_isHandOf_2 : List UInt8 := [180, 1, 10, 61, 28, 42, 180, 0, 7, 16, 16, 46, 162, 0, 55, 3, 62, 29, 8, 162, 0, 21, 42]
abbrev dktX2_isHandOf_2 : List UInt8 := dkwX2_isHandOf_2 ++ dktX2_isHandOf_3
def dkwX2_isHandOf_1 : List UInt8 := [180, 0, 7, 16, 12, 46, 79, 42, 180, 0, 32, 16, 6, 42, 180, 0, 7, 16, 13, 46, 79, 42]
abbrev dktX2_isHandOf_1 : List UInt8 := dkwX2_isHandOf_1 ++ dktX2_isHandOf_2
def dkwX2_isHandOf_0 : List UInt8 := [42, 42, 180, 0, 7, 16, 16, 46, 42, 182, 1, 120, 100, 181, 1, 10, 42, 180, 0, 32, 8, 42]
abbrev dktX2_isHandOf_0 : List UInt8 := dkwX2_isHandOf_0 ++ dktX2_isHandOf_1
theorem dksX2_isHandOf_0 : cX2_isHandOf.data.toList.drop 0 = dktX2_isHandOf_0 := by decide +kernel
theorem dksX2_isHandOf_1 : cX2_isHandOf.data.toList.drop 22 = dktX2_isHandOf_1 := dk_seg dksX2_isHandOf_0 22 rfl rfl
theorem dksX2_isHandOf_2 : cX2_isHandOf.data.toList.drop 44 = dktX2_isHandOf_2 := dk_seg dksX2_isHandOf_1 22 rfl rfl
theorem dksX2_isHandOf_3 : cX2_isHandOf.data.toList.drop 67 = dktX2_isHandOf_3 := dk_seg dksX2_isHandOf_2 23 rfl rfl
theorem dksX2_isHandOf_4 : cX2_isHandOf.data.toList.drop 91 = dktX2_isHandOf_4 := dk_seg dksX2_isHandOf_3 24 rfl rfl
theorem dX2_isHandOf_0 : decode cX2_isHandOf 0 = .ok (.aload_n 0, 1) := dk_42 (dk_at dksX2_isHandOf_0 0 rfl rfl)
theorem dX2_isHandOf_1 : decode cX2_isHandOf 1 = .ok (.aload_n 0, 1) := dk_42 (dk_at dksX2_isHandOf_0 1 rfl rfl)
theorem dX2_isHandOf_2 : decode cX2_isHandOf 2 = .ok (.getfield 7, 3) := dk_180 0 7 (dk_at dksX2_isHandOf_0 2 rfl rfl)
theorem dX2_isHandOf_5 : decode cX2_isHandOf 5 = .ok (.bipush 16, 2) := dk_16 16 (dk_at dksX2_isHandOf_0 5 rfl rfl)
theorem dX2_isHandOf_7 : decode cX2_isHandOf 7 = .ok (.iaload, 1) := dk_46 (dk_at dksX2_isHandOf_0 7 rfl rfl)
theorem dX2_isHandOf_8 : decode cX2_isHandOf 8 = .ok (.aload_n 0, 1) := dk_42 (dk_at dksX2_isHandOf_0 8 rfl rfl)
theorem dX2_isHandOf_9 : decode cX2_isHandOf 9 = .ok (.invokevirtual 376, 3) := dk_182 1 120 (dk_at dksX2_isHandOf_0 9 rfl rfl)
theorem dX2_isHandOf_12 : decode cX2_isHandOf 12 = .ok (.isub, 1) := dk_100 (dk_at dksX2_isHandOf_0 12 rfl rfl)
theorem dX2_isHandOf_13 : decode cX2_isHandOf 13 = .ok (.putfield 266, 3) := dk_181 1 10 (dk_at dksX2_isHandOf_0 13 rfl rfl)
theorem dX2_isHandOf_16 : decode cX2_isHandOf 16 = .ok (.aload_n 0, 1) := dk_42 (dk_at dksX2_isHandOf_0 16 rfl rfl)
theorem dX2_isHandOf_17 : decode cX2_isHandOf 17 = .ok (.getfield 32, 3) := dk_180 0 32 (dk_at dksX2_isHandOf_0 17 rfl rfl)
theorem dX2_isHandOf_20 : decode cX2_isHandOf 20 = .ok (.iconst 5, 1) := dk_8 (dk_at dksX2_isHandOf_0 20 rfl rfl)
theorem dX2_isHandOf_21 : decode cX2_isHandOf 21 = .ok (.aload_n 0, 1) := dk_42 (dk_at dksX2_isHandOf_0 21 rfl rfl)
theorem dX2_isHandOf_22 : decode cX2_isHandOf 22 = .ok (.getfield 7, 3) := dk_180 0 7 (dk_at dksX2_isHandOf_1 0 rfl rfl)
theorem dX2_isHandOf_25 : decode cX2_isHandOf 25 = .ok (.bipush 12, 2) := dk_16 12 (dk_at dksX2_isHandOf_1 3 rfl rfl)
theorem dX2_isHandOf_27 : decode cX2_isHandOf 27 = .ok (.iaload, 1) := dk_46 (dk_at dksX2_isHandOf_1 5 rfl rfl)
theorem dX2_isHandOf_28 : decode cX2_isHandOf 28 = .ok (.iastore, 1) := dk_79 (dk_at dksX2_isHandOf_1 6 rfl rfl)
theorem dX2_isHandOf_29 : decode cX2_isHandOf 29 = .ok (.aload_n 0, 1) := dk_42 (dk_at dksX2_isHandOf_1 7 rfl rfl)
theorem dX2_isHandOf_30 : decode cX2_isHandOf 30 = .ok (.getfield 32, 3) := dk_180 0 32 (dk_at dksX2_isHandOf_1 8 rfl rfl)
theorem dX2_isHandOf_33 : decode cX2_isHandOf 33 = .ok (.bipush 6, 2) := dk_16 6 (dk_at dksX2_isHandOf_1 11 rfl rfl)
theorem dX2_isHandOf_35 : decode cX2_isHandOf 35 = .ok (.aload_n 0, 1) := dk_42 (dk_at dksX2_isHandOf_1 13 rfl rfl)
theorem dX2_isHandOf_36 : decode cX2_isHandOf 36 = .ok (.getfield 7, 3) := dk_180 0 7 (dk_at dksX2_isHandOf_1 14 rfl rfl)
theorem dX2_isHandOf_39 : decode cX2_isHandOf 39 = .ok (.bipush 13, 2) := dk_16 13 (dk_at dksX2_isHandOf_1 17 rfl rfl)
theorem dX2_isHandOf_41 : decode cX2_isHandOf 41 = .ok (.iaload, 1) := dk_46 (dk_at dksX2_isHandOf_1 19 rfl rfl)
theorem dX2_isHandOf_42 : decode cX2_isHandOf 42 = .ok (.iastore, 1) := dk_79 (dk_at dksX2_isHandOf_1 20 rfl rfl)
theorem dX2_isHandOf_43 : decode cX2_isHandOf 43 = .ok (.aload_n 0, 1) := dk_42 (dk_at dksX2_isHandOf_1 21 rfl rfl)
theorem dX2_isHandOf_44 : decode cX2_isHandOf 44 = .ok (.getfield 266, 3) := dk_180 1 10 (dk_at dksX2_isHandOf_2 0 rfl rfl)
theorem dX2_isHandOf_47 : decode cX2_isHandOf 47 = .ok (.istore_n 2, 1) := dk_61 (dk_at dksX2_isHandOf_2 3 rfl rfl)
theorem dX2_isHandOf_48 : decode cX2_isHandOf 48 = .ok (.iload_n 2, 1) := dk_28 (dk_at dksX2_isHandOf_2 4 rfl rfl)
theorem dX2_isHandOf_49 : decode cX2_isHandOf 49 = .ok (.aload_n 0, 1) := dk_42 (dk_at dksX2_isHandOf_2 5 rfl rfl)
theorem dX2_isHandOf_50 : decode cX2_isHandOf 50 = .ok (.getfield 7, 3) := dk_180 0 7 (dk_at dksX2_isHandOf_2 6 rfl rfl)
theorem dX2_isHandOf_53 : decode cX2_isHandOf 53 = .ok (.bipush 16, 2) := dk_16 16 (dk_at dksX2_isHandOf_2 9 rfl rfl)
theorem dX2_isHandOf_55 : decode cX2_isHandOf 55 = .ok (.iaload, 1) := dk_46 (dk_at dksX2_isHandOf_2 11 rfl rfl)
theorem dX2_isHandOf_56 : decode cX2_isHandOf 56 = .ok (.if_icmp .ge 55, 3) := dk_162 0 55 (dk_at dksX2_isHandOf_2 12 rfl rfl)
theorem dX2_isHandOf_59 : decode cX2_isHandOf 59 = .ok (.iconst 0, 1) := dk_3 (dk_at dksX2_isHandOf_2 15 rfl rfl)
theorem dX2_isHandOf_60 : decode cX2_isHandOf 60 = .ok (.istore_n 3, 1) := dk_62 (dk_at dksX2_isHandOf_2 16 rfl rfl)
theorem dX2_isHandOf_61 : decode cX2_isHandOf 61 = .ok (.iload_n 3, 1) := dk_29 (dk_at dksX2_isHandOf_2 17 rfl rfl)
theorem dX2_isHandOf_62 : decode cX2_isHandOf 62 = .ok (.iconst 5, 1) := dk_8 (dk_at dksX2_isHandOf_2 18 rfl rfl)
theorem dX2_isHandOf_63 : decode cX2_isHandOf 63 = .ok (.if_icmp .ge 21, 3) := dk_162 0 21 (dk_at dksX2_isHandOf_2 19 rfl rfl)
theorem dX2_isHandOf_66 : decode cX2_isHandOf 66 = .ok (.aload_n 0, 1) := dk_42 (dk_at dksX2_isHandOf_2 22 rfl rfl)
theorem dX2_isHandOf_67 : decode cX2_isHandOf 67 = .ok (.getfield 32, 3) := dk_180 0 32 (dk_at dksX2_isHandOf_3 0 rfl rfl)
theorem dX2_isHandOf_70 : decode cX2_isHandOf 70 = .ok (.iload_n 3, 1) := dk_29 (dk_at dksX2_isHandOf_3 3 rfl rfl)
theorem dX2_isHandOf_71 : decode cX2_isHandOf 71 = .ok (.aload_n 0, 1) := dk_42 (dk_at dksX2_isHandOf_3 4 rfl rfl)
theorem dX2_isHandOf_72 : decode cX2_isHandOf 72 = .ok (.iload_n 2, 1) := dk_28 (dk_at dksX2_isHandOf_3 5 rfl rfl)
theorem dX2_isHandOf_73 : decode cX2_isHandOf 73 = .ok (.iload_n 3, 1) := dk_29 (dk_at dksX2_isHandOf_3 6 rfl rfl)
theorem dX2_isHandOf_74 : decode cX2_isHandOf 74 = .ok (.invokevirtual 269, 3) := dk_182 1 13 (dk_at dksX2_isHandOf_3 7 rfl rfl)
theorem dX2_isHandOf_77 : decode cX2_isHandOf 77 = .ok (.iastore, 1) := dk_79 (dk_at dksX2_isHandOf_3 10 rfl rfl)
theorem dX2_isHandOf_78 : decode cX2_isHandOf 78 = .ok (.iinc 3 1, 3) := dk_132 3 1 (dk_at dksX2_isHandOf_3 11 rfl rfl)
theorem dX2_isHandOf_81 : decode cX2_isHandOf 81 = .ok (.goto (-20), 3) := dk_167 255 236 (dk_at dksX2_isHandOf_3 14 rfl rfl)
theorem dX2_isHandOf_84 : decode cX2_isHandOf 84 = .ok (.aload_n 0, 1) := dk_42 (dk_at dksX2_isHandOf_3 17 rfl rfl)
theorem dX2_isHandOf_85 : decode cX2_isHandOf 85 = .ok (.iload_n 2, 1) := dk_28 (dk_at dksX2_isHandOf_3 18 rfl rfl)
theorem dX2_isHandOf_86 : decode cX2_isHandOf 86 = .ok (.putfield 263, 3) := dk_181 1 7 (dk_at dksX2_isHandOf_3 19 rfl rfl)
theorem dX2_isHandOf_89 : decode cX2_isHandOf 89 = .ok (.aload_n 0, 1) := dk_42 (dk_at dksX2_isHandOf_3 22 rfl rfl)
theorem dX2_isHandOf_90 : decode cX2_isHandOf 90 = .ok (.iload_n 1, 1) := dk_27 (dk_at dksX2_isHandOf_3 23 rfl rfl)
theorem dX2_isHandOf_91 : decode cX2_isHandOf 91 = .ok (.invokevirtual 326, 3) := dk_182 1 70 (dk_at dksX2_isHandOf_4 0 rfl rfl)
theorem dX2_isHandOf_94 : decode cX2_isHandOf 94 = .ok (.aload_n 0, 1) := dk_42 (dk_at dksX2_isHandOf_4 3 rfl rfl)
theorem dX2_isHandOf_95 : decode cX2_isHandOf 95 = .ok (.iload_n 2, 1) := dk_28 (dk_at dksX2_isHandOf_4 4 rfl rfl)
theorem dX2_isHandOf_96 : decode cX2_isHandOf 96 = .ok (.iconst 5, 1) := dk_8 (dk_at dksX2_isHandOf_4 5 rfl rfl)
theorem dX2_isHandOf_97 : decode cX2_isHandOf 97 = .ok (.invokevirtual 269, 3) := dk_182 1 13 (dk_at dksX2_isHandOf_4 6 rfl rfl)
theorem dX2_isHandOf_100 : decode cX2_isHandOf 100 = .ok (.if_icmp .eq 5, 3) := dk_159 0 5 (dk_at dksX2_isHandOf_4 9 rfl rfl)
theorem dX2_isHandOf_103 : decode cX2_isHandOf 103 = .ok (.iconst 0, 1) := dk_3 (dk_at dksX2_isHandOf_4 12 rfl rfl)
theorem dX2_isHandOf_104 : decode cX2_isHandOf 104 = .ok (.ireturn, 1) := dk_172 (dk_at dksX2_isHandOf_4 13 rfl rfl)
theorem dX2_isHandOf_105 : decode cX2_isHandOf 105 = .ok (.iinc 2 1, 3) := dk_132 2 1 (dk_at dksX2_isHandOf_4 14 rfl rfl)
theorem dX2_isHandOf_108 : decode cX2_isHandOf 108 = .ok (.goto (-60), 3) := dk_167 255 196 (dk_at dksX2_isHandOf_4 17 rfl rfl)
theorem dX2_isHandOf_111 : decode cX2_isHandOf 111 = .ok (.iconst 1, 1) := dk_4 (dk_at dksX2_isHandOf_4 20 rfl rfl)
theorem dX2_isHandOf_112 : decode cX2_isHandOf 112 = .ok (.ireturn, 1) := dk_172 (dk_at dksX2_isHandOf_4 21 rfl rfl)
abbrev cX2_saves : ByteArray := prog_19_method_113_code
def yX2_saves : MethodName := ⟨RX2, "saves", "(III)I"⟩
def dkwX2_saves_4 : List UInt8 := [132, 5, 1, 167, 255, 209, 21, 4, 172]
abbrev dktX2_saves_4 : List UInt8 := dkwX2_saves_4 ++ []
def dkwX2_saves_3 : List UInt8 := [42, 28, 21, 5, 182, 1, 171, 42, 27, 21, 5, 182, 1, 171, 100, 167, 0, 4, 3, 96, 54, 4]
abbrev dktX2_saves_3 : List UInt8 := dkwX2_saves_3 ++ dktX2_saves_4
def dkwX2_saves_2 : List UInt8 := [54, 5, 21, 5, 42, 180, 0, 7, 3, 46, 162, 0, 42, 21, 4, 29, 21, 5, 184, 0, 241, 153, 0, 21]
abbrev dktX2_saves_2 : List UInt8 := dkwX2_saves_2 ++ dktX2_saves_3
def dkwX2_saves_1 : List UInt8 := [42, 180, 0, 7, 3, 46, 120, 4, 100, 184, 0, 71, 154, 0, 7, 19, 1, 113, 172, 3, 54, 4, 3]
abbrev dktX2_saves_1 : List UInt8 := dkwX2_saves_1 ++ dktX2_saves_2
def dkwX2_saves_0 : List UInt8 := [42, 27, 182, 1, 153, 153, 0, 34, 42, 28, 182, 1, 153, 153, 0, 26, 27, 28, 159, 0, 21, 29, 4, 4]
abbrev dktX2_saves_0 : List UInt8 := dkwX2_saves_0 ++ dktX2_saves_1
theorem dksX2_saves_0 : cX2_saves.data.toList.drop 0 = dktX2_saves_0 := by decide +kernel
theorem dksX2_saves_1 : cX2_saves.data.toList.drop 24 = dktX2_saves_1 := dk_seg dksX2_saves_0 24 rfl rfl
theorem dksX2_saves_2 : cX2_saves.data.toList.drop 47 = dktX2_saves_2 := dk_seg dksX2_saves_1 23 rfl rfl
theorem dksX2_saves_3 : cX2_saves.data.toList.drop 71 = dktX2_saves_3 := dk_seg dksX2_saves_2 24 rfl rfl
theorem dksX2_saves_4 : cX2_saves.data.toList.drop 93 = dktX2_saves_4 := dk_seg dksX2_saves_3 22 rfl rfl
theorem dX2_saves_0 : decode cX2_saves 0 = .ok (.aload_n 0, 1) := dk_42 (dk_at dksX2_saves_0 0 rfl rfl)
theorem dX2_saves_1 : decode cX2_saves 1 = .ok (.iload_n 1, 1) := dk_27 (dk_at dksX2_saves_0 1 rfl rfl)
theorem dX2_saves_2 : decode cX2_saves 2 = .ok (.invokevirtual 409, 3) := dk_182 1 153 (dk_at dksX2_saves_0 2 rfl rfl)
theorem dX2_saves_5 : decode cX2_saves 5 = .ok (.ifCond .eq 34, 3) := dk_153 0 34 (dk_at dksX2_saves_0 5 rfl rfl)
theorem dX2_saves_8 : decode cX2_saves 8 = .ok (.aload_n 0, 1) := dk_42 (dk_at dksX2_saves_0 8 rfl rfl)
theorem dX2_saves_9 : decode cX2_saves 9 = .ok (.iload_n 2, 1) := dk_28 (dk_at dksX2_saves_0 9 rfl rfl)
theorem dX2_saves_10 : decode cX2_saves 10 = .ok (.invokevirtual 409, 3) := dk_182 1 153 (dk_at dksX2_saves_0 10 rfl rfl)
theorem dX2_saves_13 : decode cX2_saves 13 = .ok (.ifCond .eq 26, 3) := dk_153 0 26 (dk_at dksX2_saves_0 13 rfl rfl)
theorem dX2_saves_16 : decode cX2_saves 16 = .ok (.iload_n 1, 1) := dk_27 (dk_at dksX2_saves_0 16 rfl rfl)
theorem dX2_saves_17 : decode cX2_saves 17 = .ok (.iload_n 2, 1) := dk_28 (dk_at dksX2_saves_0 17 rfl rfl)
theorem dX2_saves_18 : decode cX2_saves 18 = .ok (.if_icmp .eq 21, 3) := dk_159 0 21 (dk_at dksX2_saves_0 18 rfl rfl)
theorem dX2_saves_21 : decode cX2_saves 21 = .ok (.iload_n 3, 1) := dk_29 (dk_at dksX2_saves_0 21 rfl rfl)
theorem dX2_saves_22 : decode cX2_saves 22 = .ok (.iconst 1, 1) := dk_4 (dk_at dksX2_saves_0 22 rfl rfl)
theorem dX2_saves_23 : decode cX2_saves 23 = .ok (.iconst 1, 1) := dk_4 (dk_at dksX2_saves_0 23 rfl rfl)
theorem dX2_saves_24 : decode cX2_saves 24 = .ok (.aload_n 0, 1) := dk_42 (dk_at dksX2_saves_1 0 rfl rfl)
theorem dX2_saves_25 : decode cX2_saves 25 = .ok (.getfield 7, 3) := dk_180 0 7 (dk_at dksX2_saves_1 1 rfl rfl)
theorem dX2_saves_28 : decode cX2_saves 28 = .ok (.iconst 0, 1) := dk_3 (dk_at dksX2_saves_1 4 rfl rfl)
theorem dX2_saves_29 : decode cX2_saves 29 = .ok (.iaload, 1) := dk_46 (dk_at dksX2_saves_1 5 rfl rfl)
theorem dX2_saves_30 : decode cX2_saves 30 = .ok (.ishl, 1) := dk_120 (dk_at dksX2_saves_1 6 rfl rfl)
theorem dX2_saves_31 : decode cX2_saves 31 = .ok (.iconst 1, 1) := dk_4 (dk_at dksX2_saves_1 7 rfl rfl)
theorem dX2_saves_32 : decode cX2_saves 32 = .ok (.isub, 1) := dk_100 (dk_at dksX2_saves_1 8 rfl rfl)
theorem dX2_saves_33 : decode cX2_saves 33 = .ok (.invokestatic 71, 3) := dk_184 0 71 (dk_at dksX2_saves_1 9 rfl rfl)
theorem dX2_saves_36 : decode cX2_saves 36 = .ok (.ifCond .ne 7, 3) := dk_154 0 7 (dk_at dksX2_saves_1 12 rfl rfl)
theorem dX2_saves_39 : decode cX2_saves 39 = .ok (.ldc_w 369, 3) := dk_19 1 113 (dk_at dksX2_saves_1 15 rfl rfl)
theorem dX2_saves_42 : decode cX2_saves 42 = .ok (.ireturn, 1) := dk_172 (dk_at dksX2_saves_1 18 rfl rfl)
theorem dX2_saves_43 : decode cX2_saves 43 = .ok (.iconst 0, 1) := dk_3 (dk_at dksX2_saves_1 19 rfl rfl)
theorem dX2_saves_44 : decode cX2_saves 44 = .ok (.istore 4, 2) := dk_54 4 (dk_at dksX2_saves_1 20 rfl rfl)
theorem dX2_saves_46 : decode cX2_saves 46 = .ok (.iconst 0, 1) := dk_3 (dk_at dksX2_saves_1 22 rfl rfl)
theorem dX2_saves_47 : decode cX2_saves 47 = .ok (.istore 5, 2) := dk_54 5 (dk_at dksX2_saves_2 0 rfl rfl)
theorem dX2_saves_49 : decode cX2_saves 49 = .ok (.iload 5, 2) := dk_21 5 (dk_at dksX2_saves_2 2 rfl rfl)
theorem dX2_saves_51 : decode cX2_saves 51 = .ok (.aload_n 0, 1) := dk_42 (dk_at dksX2_saves_2 4 rfl rfl)
theorem dX2_saves_52 : decode cX2_saves 52 = .ok (.getfield 7, 3) := dk_180 0 7 (dk_at dksX2_saves_2 5 rfl rfl)
theorem dX2_saves_55 : decode cX2_saves 55 = .ok (.iconst 0, 1) := dk_3 (dk_at dksX2_saves_2 8 rfl rfl)
theorem dX2_saves_56 : decode cX2_saves 56 = .ok (.iaload, 1) := dk_46 (dk_at dksX2_saves_2 9 rfl rfl)
theorem dX2_saves_57 : decode cX2_saves 57 = .ok (.if_icmp .ge 42, 3) := dk_162 0 42 (dk_at dksX2_saves_2 10 rfl rfl)
theorem dX2_saves_60 : decode cX2_saves 60 = .ok (.iload 4, 2) := dk_21 4 (dk_at dksX2_saves_2 13 rfl rfl)
theorem dX2_saves_62 : decode cX2_saves 62 = .ok (.iload_n 3, 1) := dk_29 (dk_at dksX2_saves_2 15 rfl rfl)
theorem dX2_saves_63 : decode cX2_saves 63 = .ok (.iload 5, 2) := dk_21 5 (dk_at dksX2_saves_2 16 rfl rfl)
theorem dX2_saves_65 : decode cX2_saves 65 = .ok (.invokestatic 241, 3) := dk_184 0 241 (dk_at dksX2_saves_2 18 rfl rfl)
theorem dX2_saves_68 : decode cX2_saves 68 = .ok (.ifCond .eq 21, 3) := dk_153 0 21 (dk_at dksX2_saves_2 21 rfl rfl)
theorem dX2_saves_71 : decode cX2_saves 71 = .ok (.aload_n 0, 1) := dk_42 (dk_at dksX2_saves_3 0 rfl rfl)
theorem dX2_saves_72 : decode cX2_saves 72 = .ok (.iload_n 2, 1) := dk_28 (dk_at dksX2_saves_3 1 rfl rfl)
theorem dX2_saves_73 : decode cX2_saves 73 = .ok (.iload 5, 2) := dk_21 5 (dk_at dksX2_saves_3 2 rfl rfl)
theorem dX2_saves_75 : decode cX2_saves 75 = .ok (.invokevirtual 427, 3) := dk_182 1 171 (dk_at dksX2_saves_3 4 rfl rfl)
theorem dX2_saves_78 : decode cX2_saves 78 = .ok (.aload_n 0, 1) := dk_42 (dk_at dksX2_saves_3 7 rfl rfl)
theorem dX2_saves_79 : decode cX2_saves 79 = .ok (.iload_n 1, 1) := dk_27 (dk_at dksX2_saves_3 8 rfl rfl)
theorem dX2_saves_80 : decode cX2_saves 80 = .ok (.iload 5, 2) := dk_21 5 (dk_at dksX2_saves_3 9 rfl rfl)
theorem dX2_saves_82 : decode cX2_saves 82 = .ok (.invokevirtual 427, 3) := dk_182 1 171 (dk_at dksX2_saves_3 11 rfl rfl)
theorem dX2_saves_85 : decode cX2_saves 85 = .ok (.isub, 1) := dk_100 (dk_at dksX2_saves_3 14 rfl rfl)
theorem dX2_saves_86 : decode cX2_saves 86 = .ok (.goto 4, 3) := dk_167 0 4 (dk_at dksX2_saves_3 15 rfl rfl)
theorem dX2_saves_89 : decode cX2_saves 89 = .ok (.iconst 0, 1) := dk_3 (dk_at dksX2_saves_3 18 rfl rfl)
theorem dX2_saves_90 : decode cX2_saves 90 = .ok (.iadd, 1) := dk_96 (dk_at dksX2_saves_3 19 rfl rfl)
theorem dX2_saves_91 : decode cX2_saves 91 = .ok (.istore 4, 2) := dk_54 4 (dk_at dksX2_saves_3 20 rfl rfl)
theorem dX2_saves_93 : decode cX2_saves 93 = .ok (.iinc 5 1, 3) := dk_132 5 1 (dk_at dksX2_saves_4 0 rfl rfl)
theorem dX2_saves_96 : decode cX2_saves 96 = .ok (.goto (-47), 3) := dk_167 255 209 (dk_at dksX2_saves_4 3 rfl rfl)
theorem dX2_saves_99 : decode cX2_saves 99 = .ok (.iload 4, 2) := dk_21 4 (dk_at dksX2_saves_4 6 rfl rfl)
theorem dX2_saves_101 : decode cX2_saves 101 = .ok (.ireturn, 1) := dk_172 (dk_at dksX2_saves_4 8 rfl rfl)
abbrev cX2_fromRest : ByteArray := prog_19_method_110_code
def yX2_fromRest : MethodName := ⟨RX2, "fromRest", "(II)I"⟩
def dkwX2_fromRest_4 : List UInt8 := [182, 1, 126, 29, 172]
abbrev dktX2_fromRest_4 : List UInt8 := dkwX2_fromRest_4 ++ []
def dkwX2_fromRest_3 : List UInt8 := [79, 42, 4, 181, 1, 61, 42, 182, 1, 162, 42, 27, 3, 182, 1, 165, 62, 42, 182, 1, 168, 42]
abbrev dktX2_fromRest_3 : List UInt8 := dkwX2_fromRest_3 ++ dktX2_fromRest_4
def dkwX2_fromRest_2 : List UInt8 := [16, 13, 42, 28, 3, 182, 1, 39, 79, 42, 180, 0, 7, 16, 15, 16, 10, 42, 28, 4, 182, 1, 39, 104]
abbrev dktX2_fromRest_2 : List UInt8 := dkwX2_fromRest_2 ++ dktX2_fromRest_3
def dkwX2_fromRest_1 : List UInt8 := [167, 255, 240, 42, 180, 0, 7, 16, 14, 3, 79, 42, 180, 0, 7, 16, 16, 3, 79, 42, 180, 0, 7]
abbrev dktX2_fromRest_1 : List UInt8 := dkwX2_fromRest_1 ++ dktX2_fromRest_2
def dkwX2_fromRest_0 : List UInt8 := [42, 182, 1, 123, 16, 8, 62, 29, 16, 11, 163, 0, 16, 42, 180, 0, 7, 29, 3, 79, 132, 3, 1]
abbrev dktX2_fromRest_0 : List UInt8 := dkwX2_fromRest_0 ++ dktX2_fromRest_1
theorem dksX2_fromRest_0 : cX2_fromRest.data.toList.drop 0 = dktX2_fromRest_0 := by decide +kernel
theorem dksX2_fromRest_1 : cX2_fromRest.data.toList.drop 23 = dktX2_fromRest_1 := dk_seg dksX2_fromRest_0 23 rfl rfl
theorem dksX2_fromRest_2 : cX2_fromRest.data.toList.drop 46 = dktX2_fromRest_2 := dk_seg dksX2_fromRest_1 23 rfl rfl
theorem dksX2_fromRest_3 : cX2_fromRest.data.toList.drop 70 = dktX2_fromRest_3 := dk_seg dksX2_fromRest_2 24 rfl rfl
theorem dksX2_fromRest_4 : cX2_fromRest.data.toList.drop 92 = dktX2_fromRest_4 := dk_seg dksX2_fromRest_3 22 rfl rfl
theorem dX2_fromRest_0 : decode cX2_fromRest 0 = .ok (.aload_n 0, 1) := dk_42 (dk_at dksX2_fromRest_0 0 rfl rfl)
theorem dX2_fromRest_1 : decode cX2_fromRest 1 = .ok (.invokevirtual 379, 3) := dk_182 1 123 (dk_at dksX2_fromRest_0 1 rfl rfl)
theorem dX2_fromRest_4 : decode cX2_fromRest 4 = .ok (.bipush 8, 2) := dk_16 8 (dk_at dksX2_fromRest_0 4 rfl rfl)
theorem dX2_fromRest_6 : decode cX2_fromRest 6 = .ok (.istore_n 3, 1) := dk_62 (dk_at dksX2_fromRest_0 6 rfl rfl)
theorem dX2_fromRest_7 : decode cX2_fromRest 7 = .ok (.iload_n 3, 1) := dk_29 (dk_at dksX2_fromRest_0 7 rfl rfl)
theorem dX2_fromRest_8 : decode cX2_fromRest 8 = .ok (.bipush 11, 2) := dk_16 11 (dk_at dksX2_fromRest_0 8 rfl rfl)
theorem dX2_fromRest_10 : decode cX2_fromRest 10 = .ok (.if_icmp .gt 16, 3) := dk_163 0 16 (dk_at dksX2_fromRest_0 10 rfl rfl)
theorem dX2_fromRest_13 : decode cX2_fromRest 13 = .ok (.aload_n 0, 1) := dk_42 (dk_at dksX2_fromRest_0 13 rfl rfl)
theorem dX2_fromRest_14 : decode cX2_fromRest 14 = .ok (.getfield 7, 3) := dk_180 0 7 (dk_at dksX2_fromRest_0 14 rfl rfl)
theorem dX2_fromRest_17 : decode cX2_fromRest 17 = .ok (.iload_n 3, 1) := dk_29 (dk_at dksX2_fromRest_0 17 rfl rfl)
theorem dX2_fromRest_18 : decode cX2_fromRest 18 = .ok (.iconst 0, 1) := dk_3 (dk_at dksX2_fromRest_0 18 rfl rfl)
theorem dX2_fromRest_19 : decode cX2_fromRest 19 = .ok (.iastore, 1) := dk_79 (dk_at dksX2_fromRest_0 19 rfl rfl)
theorem dX2_fromRest_20 : decode cX2_fromRest 20 = .ok (.iinc 3 1, 3) := dk_132 3 1 (dk_at dksX2_fromRest_0 20 rfl rfl)
theorem dX2_fromRest_23 : decode cX2_fromRest 23 = .ok (.goto (-16), 3) := dk_167 255 240 (dk_at dksX2_fromRest_1 0 rfl rfl)
theorem dX2_fromRest_26 : decode cX2_fromRest 26 = .ok (.aload_n 0, 1) := dk_42 (dk_at dksX2_fromRest_1 3 rfl rfl)
theorem dX2_fromRest_27 : decode cX2_fromRest 27 = .ok (.getfield 7, 3) := dk_180 0 7 (dk_at dksX2_fromRest_1 4 rfl rfl)
theorem dX2_fromRest_30 : decode cX2_fromRest 30 = .ok (.bipush 14, 2) := dk_16 14 (dk_at dksX2_fromRest_1 7 rfl rfl)
theorem dX2_fromRest_32 : decode cX2_fromRest 32 = .ok (.iconst 0, 1) := dk_3 (dk_at dksX2_fromRest_1 9 rfl rfl)
theorem dX2_fromRest_33 : decode cX2_fromRest 33 = .ok (.iastore, 1) := dk_79 (dk_at dksX2_fromRest_1 10 rfl rfl)
theorem dX2_fromRest_34 : decode cX2_fromRest 34 = .ok (.aload_n 0, 1) := dk_42 (dk_at dksX2_fromRest_1 11 rfl rfl)
theorem dX2_fromRest_35 : decode cX2_fromRest 35 = .ok (.getfield 7, 3) := dk_180 0 7 (dk_at dksX2_fromRest_1 12 rfl rfl)
theorem dX2_fromRest_38 : decode cX2_fromRest 38 = .ok (.bipush 16, 2) := dk_16 16 (dk_at dksX2_fromRest_1 15 rfl rfl)
theorem dX2_fromRest_40 : decode cX2_fromRest 40 = .ok (.iconst 0, 1) := dk_3 (dk_at dksX2_fromRest_1 17 rfl rfl)
theorem dX2_fromRest_41 : decode cX2_fromRest 41 = .ok (.iastore, 1) := dk_79 (dk_at dksX2_fromRest_1 18 rfl rfl)
theorem dX2_fromRest_42 : decode cX2_fromRest 42 = .ok (.aload_n 0, 1) := dk_42 (dk_at dksX2_fromRest_1 19 rfl rfl)
theorem dX2_fromRest_43 : decode cX2_fromRest 43 = .ok (.getfield 7, 3) := dk_180 0 7 (dk_at dksX2_fromRest_1 20 rfl rfl)
theorem dX2_fromRest_46 : decode cX2_fromRest 46 = .ok (.bipush 13, 2) := dk_16 13 (dk_at dksX2_fromRest_2 0 rfl rfl)
theorem dX2_fromRest_48 : decode cX2_fromRest 48 = .ok (.aload_n 0, 1) := dk_42 (dk_at dksX2_fromRest_2 2 rfl rfl)
theorem dX2_fromRest_49 : decode cX2_fromRest 49 = .ok (.iload_n 2, 1) := dk_28 (dk_at dksX2_fromRest_2 3 rfl rfl)
theorem dX2_fromRest_50 : decode cX2_fromRest 50 = .ok (.iconst 0, 1) := dk_3 (dk_at dksX2_fromRest_2 4 rfl rfl)
theorem dX2_fromRest_51 : decode cX2_fromRest 51 = .ok (.invokevirtual 295, 3) := dk_182 1 39 (dk_at dksX2_fromRest_2 5 rfl rfl)
theorem dX2_fromRest_54 : decode cX2_fromRest 54 = .ok (.iastore, 1) := dk_79 (dk_at dksX2_fromRest_2 8 rfl rfl)
theorem dX2_fromRest_55 : decode cX2_fromRest 55 = .ok (.aload_n 0, 1) := dk_42 (dk_at dksX2_fromRest_2 9 rfl rfl)
theorem dX2_fromRest_56 : decode cX2_fromRest 56 = .ok (.getfield 7, 3) := dk_180 0 7 (dk_at dksX2_fromRest_2 10 rfl rfl)
theorem dX2_fromRest_59 : decode cX2_fromRest 59 = .ok (.bipush 15, 2) := dk_16 15 (dk_at dksX2_fromRest_2 13 rfl rfl)
theorem dX2_fromRest_61 : decode cX2_fromRest 61 = .ok (.bipush 10, 2) := dk_16 10 (dk_at dksX2_fromRest_2 15 rfl rfl)
theorem dX2_fromRest_63 : decode cX2_fromRest 63 = .ok (.aload_n 0, 1) := dk_42 (dk_at dksX2_fromRest_2 17 rfl rfl)
theorem dX2_fromRest_64 : decode cX2_fromRest 64 = .ok (.iload_n 2, 1) := dk_28 (dk_at dksX2_fromRest_2 18 rfl rfl)
theorem dX2_fromRest_65 : decode cX2_fromRest 65 = .ok (.iconst 1, 1) := dk_4 (dk_at dksX2_fromRest_2 19 rfl rfl)
theorem dX2_fromRest_66 : decode cX2_fromRest 66 = .ok (.invokevirtual 295, 3) := dk_182 1 39 (dk_at dksX2_fromRest_2 20 rfl rfl)
theorem dX2_fromRest_69 : decode cX2_fromRest 69 = .ok (.imul, 1) := dk_104 (dk_at dksX2_fromRest_2 23 rfl rfl)
theorem dX2_fromRest_70 : decode cX2_fromRest 70 = .ok (.iastore, 1) := dk_79 (dk_at dksX2_fromRest_3 0 rfl rfl)
theorem dX2_fromRest_71 : decode cX2_fromRest 71 = .ok (.aload_n 0, 1) := dk_42 (dk_at dksX2_fromRest_3 1 rfl rfl)
theorem dX2_fromRest_72 : decode cX2_fromRest 72 = .ok (.iconst 1, 1) := dk_4 (dk_at dksX2_fromRest_3 2 rfl rfl)
theorem dX2_fromRest_73 : decode cX2_fromRest 73 = .ok (.putfield 317, 3) := dk_181 1 61 (dk_at dksX2_fromRest_3 3 rfl rfl)
theorem dX2_fromRest_76 : decode cX2_fromRest 76 = .ok (.aload_n 0, 1) := dk_42 (dk_at dksX2_fromRest_3 6 rfl rfl)
theorem dX2_fromRest_77 : decode cX2_fromRest 77 = .ok (.invokevirtual 418, 3) := dk_182 1 162 (dk_at dksX2_fromRest_3 7 rfl rfl)
theorem dX2_fromRest_80 : decode cX2_fromRest 80 = .ok (.aload_n 0, 1) := dk_42 (dk_at dksX2_fromRest_3 10 rfl rfl)
theorem dX2_fromRest_81 : decode cX2_fromRest 81 = .ok (.iload_n 1, 1) := dk_27 (dk_at dksX2_fromRest_3 11 rfl rfl)
theorem dX2_fromRest_82 : decode cX2_fromRest 82 = .ok (.iconst 0, 1) := dk_3 (dk_at dksX2_fromRest_3 12 rfl rfl)
theorem dX2_fromRest_83 : decode cX2_fromRest 83 = .ok (.invokevirtual 421, 3) := dk_182 1 165 (dk_at dksX2_fromRest_3 13 rfl rfl)
theorem dX2_fromRest_86 : decode cX2_fromRest 86 = .ok (.istore_n 3, 1) := dk_62 (dk_at dksX2_fromRest_3 16 rfl rfl)
theorem dX2_fromRest_87 : decode cX2_fromRest 87 = .ok (.aload_n 0, 1) := dk_42 (dk_at dksX2_fromRest_3 17 rfl rfl)
theorem dX2_fromRest_88 : decode cX2_fromRest 88 = .ok (.invokevirtual 424, 3) := dk_182 1 168 (dk_at dksX2_fromRest_3 18 rfl rfl)
theorem dX2_fromRest_91 : decode cX2_fromRest 91 = .ok (.aload_n 0, 1) := dk_42 (dk_at dksX2_fromRest_3 21 rfl rfl)
theorem dX2_fromRest_92 : decode cX2_fromRest 92 = .ok (.invokevirtual 382, 3) := dk_182 1 126 (dk_at dksX2_fromRest_4 0 rfl rfl)
theorem dX2_fromRest_95 : decode cX2_fromRest 95 = .ok (.iload_n 3, 1) := dk_29 (dk_at dksX2_fromRest_4 3 rfl rfl)
theorem dX2_fromRest_96 : decode cX2_fromRest 96 = .ok (.ireturn, 1) := dk_172 (dk_at dksX2_fromRest_4 4 rfl rfl)
abbrev cX2_keepPast : ByteArray := prog_19_method_111_code
def yX2_keepPast : MethodName := ⟨RX2, "keepPast", "()V"⟩
def dkwX2_keepPast_1 : List UInt8 := [79, 132, 1, 1, 167, 255, 230, 177]
abbrev dktX2_keepPast_1 : List UInt8 := dkwX2_keepPast_1 ++ []
def dkwX2_keepPast_0 : List UInt8 := [3, 60, 27, 17, 4, 176, 162, 0, 25, 42, 180, 0, 46, 27, 42, 180, 0, 7, 17, 2, 90, 27, 96, 46]
abbrev dktX2_keepPast_0 : List UInt8 := dkwX2_keepPast_0 ++ dktX2_keepPast_1
theorem dksX2_keepPast_0 : cX2_keepPast.data.toList.drop 0 = dktX2_keepPast_0 := by decide +kernel
theorem dksX2_keepPast_1 : cX2_keepPast.data.toList.drop 24 = dktX2_keepPast_1 := dk_seg dksX2_keepPast_0 24 rfl rfl
theorem dX2_keepPast_0 : decode cX2_keepPast 0 = .ok (.iconst 0, 1) := dk_3 (dk_at dksX2_keepPast_0 0 rfl rfl)
theorem dX2_keepPast_1 : decode cX2_keepPast 1 = .ok (.istore_n 1, 1) := dk_60 (dk_at dksX2_keepPast_0 1 rfl rfl)
theorem dX2_keepPast_2 : decode cX2_keepPast 2 = .ok (.iload_n 1, 1) := dk_27 (dk_at dksX2_keepPast_0 2 rfl rfl)
theorem dX2_keepPast_3 : decode cX2_keepPast 3 = .ok (.sipush 1200, 3) := dk_17 4 176 (dk_at dksX2_keepPast_0 3 rfl rfl)
theorem dX2_keepPast_6 : decode cX2_keepPast 6 = .ok (.if_icmp .ge 25, 3) := dk_162 0 25 (dk_at dksX2_keepPast_0 6 rfl rfl)
theorem dX2_keepPast_9 : decode cX2_keepPast 9 = .ok (.aload_n 0, 1) := dk_42 (dk_at dksX2_keepPast_0 9 rfl rfl)
theorem dX2_keepPast_10 : decode cX2_keepPast 10 = .ok (.getfield 46, 3) := dk_180 0 46 (dk_at dksX2_keepPast_0 10 rfl rfl)
theorem dX2_keepPast_13 : decode cX2_keepPast 13 = .ok (.iload_n 1, 1) := dk_27 (dk_at dksX2_keepPast_0 13 rfl rfl)
theorem dX2_keepPast_14 : decode cX2_keepPast 14 = .ok (.aload_n 0, 1) := dk_42 (dk_at dksX2_keepPast_0 14 rfl rfl)
theorem dX2_keepPast_15 : decode cX2_keepPast 15 = .ok (.getfield 7, 3) := dk_180 0 7 (dk_at dksX2_keepPast_0 15 rfl rfl)
theorem dX2_keepPast_18 : decode cX2_keepPast 18 = .ok (.sipush 602, 3) := dk_17 2 90 (dk_at dksX2_keepPast_0 18 rfl rfl)
theorem dX2_keepPast_21 : decode cX2_keepPast 21 = .ok (.iload_n 1, 1) := dk_27 (dk_at dksX2_keepPast_0 21 rfl rfl)
theorem dX2_keepPast_22 : decode cX2_keepPast 22 = .ok (.iadd, 1) := dk_96 (dk_at dksX2_keepPast_0 22 rfl rfl)
theorem dX2_keepPast_23 : decode cX2_keepPast 23 = .ok (.iaload, 1) := dk_46 (dk_at dksX2_keepPast_0 23 rfl rfl)
theorem dX2_keepPast_24 : decode cX2_keepPast 24 = .ok (.iastore, 1) := dk_79 (dk_at dksX2_keepPast_1 0 rfl rfl)
theorem dX2_keepPast_25 : decode cX2_keepPast 25 = .ok (.iinc 1 1, 3) := dk_132 1 1 (dk_at dksX2_keepPast_1 1 rfl rfl)
theorem dX2_keepPast_28 : decode cX2_keepPast 28 = .ok (.goto (-26), 3) := dk_167 255 230 (dk_at dksX2_keepPast_1 4 rfl rfl)
theorem dX2_keepPast_31 : decode cX2_keepPast 31 = .ok (.return_, 1) := dk_177 (dk_at dksX2_keepPast_1 7 rfl rfl)
abbrev cX2_stillBy : ByteArray := prog_19_method_109_code
def yX2_stillBy : MethodName := ⟨RX2, "stillBy", "(II)I"⟩
def dkwX2_stillBy_2 : List UInt8 := [17, 0, 200, 172]
abbrev dktX2_stillBy_2 : List UInt8 := dkwX2_stillBy_2 ++ []
def dkwX2_stillBy_1 : List UInt8 := [182, 1, 76, 29, 28, 164, 0, 12, 42, 182, 1, 91, 153, 0, 5, 29, 172, 132, 3, 1, 167, 255, 214]
abbrev dktX2_stillBy_1 : List UInt8 := dkwX2_stillBy_1 ++ dktX2_stillBy_2
def dkwX2_stillBy_0 : List UInt8 := [4, 62, 29, 17, 0, 200, 163, 0, 41, 42, 29, 28, 163, 0, 7, 3, 167, 0, 8, 42, 27, 182, 1, 82]
abbrev dktX2_stillBy_0 : List UInt8 := dkwX2_stillBy_0 ++ dktX2_stillBy_1
theorem dksX2_stillBy_0 : cX2_stillBy.data.toList.drop 0 = dktX2_stillBy_0 := by decide +kernel
theorem dksX2_stillBy_1 : cX2_stillBy.data.toList.drop 24 = dktX2_stillBy_1 := dk_seg dksX2_stillBy_0 24 rfl rfl
theorem dksX2_stillBy_2 : cX2_stillBy.data.toList.drop 47 = dktX2_stillBy_2 := dk_seg dksX2_stillBy_1 23 rfl rfl
theorem dX2_stillBy_0 : decode cX2_stillBy 0 = .ok (.iconst 1, 1) := dk_4 (dk_at dksX2_stillBy_0 0 rfl rfl)
theorem dX2_stillBy_1 : decode cX2_stillBy 1 = .ok (.istore_n 3, 1) := dk_62 (dk_at dksX2_stillBy_0 1 rfl rfl)
theorem dX2_stillBy_2 : decode cX2_stillBy 2 = .ok (.iload_n 3, 1) := dk_29 (dk_at dksX2_stillBy_0 2 rfl rfl)
theorem dX2_stillBy_3 : decode cX2_stillBy 3 = .ok (.sipush 200, 3) := dk_17 0 200 (dk_at dksX2_stillBy_0 3 rfl rfl)
theorem dX2_stillBy_6 : decode cX2_stillBy 6 = .ok (.if_icmp .gt 41, 3) := dk_163 0 41 (dk_at dksX2_stillBy_0 6 rfl rfl)
theorem dX2_stillBy_9 : decode cX2_stillBy 9 = .ok (.aload_n 0, 1) := dk_42 (dk_at dksX2_stillBy_0 9 rfl rfl)
theorem dX2_stillBy_10 : decode cX2_stillBy 10 = .ok (.iload_n 3, 1) := dk_29 (dk_at dksX2_stillBy_0 10 rfl rfl)
theorem dX2_stillBy_11 : decode cX2_stillBy 11 = .ok (.iload_n 2, 1) := dk_28 (dk_at dksX2_stillBy_0 11 rfl rfl)
theorem dX2_stillBy_12 : decode cX2_stillBy 12 = .ok (.if_icmp .gt 7, 3) := dk_163 0 7 (dk_at dksX2_stillBy_0 12 rfl rfl)
theorem dX2_stillBy_15 : decode cX2_stillBy 15 = .ok (.iconst 0, 1) := dk_3 (dk_at dksX2_stillBy_0 15 rfl rfl)
theorem dX2_stillBy_16 : decode cX2_stillBy 16 = .ok (.goto 8, 3) := dk_167 0 8 (dk_at dksX2_stillBy_0 16 rfl rfl)
theorem dX2_stillBy_19 : decode cX2_stillBy 19 = .ok (.aload_n 0, 1) := dk_42 (dk_at dksX2_stillBy_0 19 rfl rfl)
theorem dX2_stillBy_20 : decode cX2_stillBy 20 = .ok (.iload_n 1, 1) := dk_27 (dk_at dksX2_stillBy_0 20 rfl rfl)
theorem dX2_stillBy_21 : decode cX2_stillBy 21 = .ok (.invokevirtual 338, 3) := dk_182 1 82 (dk_at dksX2_stillBy_0 21 rfl rfl)
theorem dX2_stillBy_24 : decode cX2_stillBy 24 = .ok (.invokevirtual 332, 3) := dk_182 1 76 (dk_at dksX2_stillBy_1 0 rfl rfl)
theorem dX2_stillBy_27 : decode cX2_stillBy 27 = .ok (.iload_n 3, 1) := dk_29 (dk_at dksX2_stillBy_1 3 rfl rfl)
theorem dX2_stillBy_28 : decode cX2_stillBy 28 = .ok (.iload_n 2, 1) := dk_28 (dk_at dksX2_stillBy_1 4 rfl rfl)
theorem dX2_stillBy_29 : decode cX2_stillBy 29 = .ok (.if_icmp .le 12, 3) := dk_164 0 12 (dk_at dksX2_stillBy_1 5 rfl rfl)
theorem dX2_stillBy_32 : decode cX2_stillBy 32 = .ok (.aload_n 0, 1) := dk_42 (dk_at dksX2_stillBy_1 8 rfl rfl)
theorem dX2_stillBy_33 : decode cX2_stillBy 33 = .ok (.invokevirtual 347, 3) := dk_182 1 91 (dk_at dksX2_stillBy_1 9 rfl rfl)
theorem dX2_stillBy_36 : decode cX2_stillBy 36 = .ok (.ifCond .eq 5, 3) := dk_153 0 5 (dk_at dksX2_stillBy_1 12 rfl rfl)
theorem dX2_stillBy_39 : decode cX2_stillBy 39 = .ok (.iload_n 3, 1) := dk_29 (dk_at dksX2_stillBy_1 15 rfl rfl)
theorem dX2_stillBy_40 : decode cX2_stillBy 40 = .ok (.ireturn, 1) := dk_172 (dk_at dksX2_stillBy_1 16 rfl rfl)
theorem dX2_stillBy_41 : decode cX2_stillBy 41 = .ok (.iinc 3 1, 3) := dk_132 3 1 (dk_at dksX2_stillBy_1 17 rfl rfl)
theorem dX2_stillBy_44 : decode cX2_stillBy 44 = .ok (.goto (-42), 3) := dk_167 255 214 (dk_at dksX2_stillBy_1 20 rfl rfl)
theorem dX2_stillBy_47 : decode cX2_stillBy 47 = .ok (.sipush 200, 3) := dk_17 0 200 (dk_at dksX2_stillBy_2 0 rfl rfl)
theorem dX2_stillBy_50 : decode cX2_stillBy 50 = .ok (.ireturn, 1) := dk_172 (dk_at dksX2_stillBy_2 3 rfl rfl)
abbrev cX2_putBackPast : ByteArray := prog_19_method_112_code
def yX2_putBackPast : MethodName := ⟨RX2, "putBackPast", "()V"⟩
def dkwX2_putBackPast_1 : List UInt8 := [79, 132, 1, 1, 167, 255, 230, 177]
abbrev dktX2_putBackPast_1 : List UInt8 := dkwX2_putBackPast_1 ++ []
def dkwX2_putBackPast_0 : List UInt8 := [3, 60, 27, 17, 4, 176, 162, 0, 25, 42, 180, 0, 7, 17, 2, 90, 27, 96, 42, 180, 0, 46, 27, 46]
abbrev dktX2_putBackPast_0 : List UInt8 := dkwX2_putBackPast_0 ++ dktX2_putBackPast_1
theorem dksX2_putBackPast_0 : cX2_putBackPast.data.toList.drop 0 = dktX2_putBackPast_0 := by decide +kernel
theorem dksX2_putBackPast_1 : cX2_putBackPast.data.toList.drop 24 = dktX2_putBackPast_1 := dk_seg dksX2_putBackPast_0 24 rfl rfl
theorem dX2_putBackPast_0 : decode cX2_putBackPast 0 = .ok (.iconst 0, 1) := dk_3 (dk_at dksX2_putBackPast_0 0 rfl rfl)
theorem dX2_putBackPast_1 : decode cX2_putBackPast 1 = .ok (.istore_n 1, 1) := dk_60 (dk_at dksX2_putBackPast_0 1 rfl rfl)
theorem dX2_putBackPast_2 : decode cX2_putBackPast 2 = .ok (.iload_n 1, 1) := dk_27 (dk_at dksX2_putBackPast_0 2 rfl rfl)
theorem dX2_putBackPast_3 : decode cX2_putBackPast 3 = .ok (.sipush 1200, 3) := dk_17 4 176 (dk_at dksX2_putBackPast_0 3 rfl rfl)
theorem dX2_putBackPast_6 : decode cX2_putBackPast 6 = .ok (.if_icmp .ge 25, 3) := dk_162 0 25 (dk_at dksX2_putBackPast_0 6 rfl rfl)
theorem dX2_putBackPast_9 : decode cX2_putBackPast 9 = .ok (.aload_n 0, 1) := dk_42 (dk_at dksX2_putBackPast_0 9 rfl rfl)
theorem dX2_putBackPast_10 : decode cX2_putBackPast 10 = .ok (.getfield 7, 3) := dk_180 0 7 (dk_at dksX2_putBackPast_0 10 rfl rfl)
theorem dX2_putBackPast_13 : decode cX2_putBackPast 13 = .ok (.sipush 602, 3) := dk_17 2 90 (dk_at dksX2_putBackPast_0 13 rfl rfl)
theorem dX2_putBackPast_16 : decode cX2_putBackPast 16 = .ok (.iload_n 1, 1) := dk_27 (dk_at dksX2_putBackPast_0 16 rfl rfl)
theorem dX2_putBackPast_17 : decode cX2_putBackPast 17 = .ok (.iadd, 1) := dk_96 (dk_at dksX2_putBackPast_0 17 rfl rfl)
theorem dX2_putBackPast_18 : decode cX2_putBackPast 18 = .ok (.aload_n 0, 1) := dk_42 (dk_at dksX2_putBackPast_0 18 rfl rfl)
theorem dX2_putBackPast_19 : decode cX2_putBackPast 19 = .ok (.getfield 46, 3) := dk_180 0 46 (dk_at dksX2_putBackPast_0 19 rfl rfl)
theorem dX2_putBackPast_22 : decode cX2_putBackPast 22 = .ok (.iload_n 1, 1) := dk_27 (dk_at dksX2_putBackPast_0 22 rfl rfl)
theorem dX2_putBackPast_23 : decode cX2_putBackPast 23 = .ok (.iaload, 1) := dk_46 (dk_at dksX2_putBackPast_0 23 rfl rfl)
theorem dX2_putBackPast_24 : decode cX2_putBackPast 24 = .ok (.iastore, 1) := dk_79 (dk_at dksX2_putBackPast_1 0 rfl rfl)
theorem dX2_putBackPast_25 : decode cX2_putBackPast 25 = .ok (.iinc 1 1, 3) := dk_132 1 1 (dk_at dksX2_putBackPast_1 1 rfl rfl)
theorem dX2_putBackPast_28 : decode cX2_putBackPast 28 = .ok (.goto (-26), 3) := dk_167 255 230 (dk_at dksX2_putBackPast_1 4 rfl rfl)
theorem dX2_putBackPast_31 : decode cX2_putBackPast 31 = .ok (.return_, 1) := dk_177 (dk_at dksX2_putBackPast_1 7 rfl rfl)
abbrev cX2_whenToGo : ByteArray := prog_19_method_115_code
def yX2_whenToGo : MethodName := ⟨RX2, "whenToGo", "()I"⟩
def dkwX2_whenToGo_2 : List UInt8 := [167, 255, 218, 27, 172]
abbrev dktX2_whenToGo_2 : List UInt8 := dkwX2_whenToGo_2 ++ []
def dkwX2_whenToGo_1 : List UInt8 := [54, 4, 42, 182, 1, 126, 21, 4, 28, 161, 0, 6, 167, 0, 8, 21, 4, 61, 29, 60, 132, 3, 1]
abbrev dktX2_whenToGo_1 : List UInt8 := dkwX2_whenToGo_1 ++ dktX2_whenToGo_2
def dkwX2_whenToGo_0 : List UInt8 := [2, 60, 19, 1, 135, 61, 3, 62, 29, 16, 60, 163, 0, 38, 42, 182, 1, 123, 42, 29, 182, 1, 174]
abbrev dktX2_whenToGo_0 : List UInt8 := dkwX2_whenToGo_0 ++ dktX2_whenToGo_1
theorem dksX2_whenToGo_0 : cX2_whenToGo.data.toList.drop 0 = dktX2_whenToGo_0 := by decide +kernel
theorem dksX2_whenToGo_1 : cX2_whenToGo.data.toList.drop 23 = dktX2_whenToGo_1 := dk_seg dksX2_whenToGo_0 23 rfl rfl
theorem dksX2_whenToGo_2 : cX2_whenToGo.data.toList.drop 46 = dktX2_whenToGo_2 := dk_seg dksX2_whenToGo_1 23 rfl rfl
theorem dX2_whenToGo_0 : decode cX2_whenToGo 0 = .ok (.iconst (-1), 1) := dk_2 (dk_at dksX2_whenToGo_0 0 rfl rfl)
theorem dX2_whenToGo_1 : decode cX2_whenToGo 1 = .ok (.istore_n 1, 1) := dk_60 (dk_at dksX2_whenToGo_0 1 rfl rfl)
theorem dX2_whenToGo_2 : decode cX2_whenToGo 2 = .ok (.ldc_w 391, 3) := dk_19 1 135 (dk_at dksX2_whenToGo_0 2 rfl rfl)
theorem dX2_whenToGo_5 : decode cX2_whenToGo 5 = .ok (.istore_n 2, 1) := dk_61 (dk_at dksX2_whenToGo_0 5 rfl rfl)
theorem dX2_whenToGo_6 : decode cX2_whenToGo 6 = .ok (.iconst 0, 1) := dk_3 (dk_at dksX2_whenToGo_0 6 rfl rfl)
theorem dX2_whenToGo_7 : decode cX2_whenToGo 7 = .ok (.istore_n 3, 1) := dk_62 (dk_at dksX2_whenToGo_0 7 rfl rfl)
theorem dX2_whenToGo_8 : decode cX2_whenToGo 8 = .ok (.iload_n 3, 1) := dk_29 (dk_at dksX2_whenToGo_0 8 rfl rfl)
theorem dX2_whenToGo_9 : decode cX2_whenToGo 9 = .ok (.bipush 60, 2) := dk_16 60 (dk_at dksX2_whenToGo_0 9 rfl rfl)
theorem dX2_whenToGo_11 : decode cX2_whenToGo 11 = .ok (.if_icmp .gt 38, 3) := dk_163 0 38 (dk_at dksX2_whenToGo_0 11 rfl rfl)
theorem dX2_whenToGo_14 : decode cX2_whenToGo 14 = .ok (.aload_n 0, 1) := dk_42 (dk_at dksX2_whenToGo_0 14 rfl rfl)
theorem dX2_whenToGo_15 : decode cX2_whenToGo 15 = .ok (.invokevirtual 379, 3) := dk_182 1 123 (dk_at dksX2_whenToGo_0 15 rfl rfl)
theorem dX2_whenToGo_18 : decode cX2_whenToGo 18 = .ok (.aload_n 0, 1) := dk_42 (dk_at dksX2_whenToGo_0 18 rfl rfl)
theorem dX2_whenToGo_19 : decode cX2_whenToGo 19 = .ok (.iload_n 3, 1) := dk_29 (dk_at dksX2_whenToGo_0 19 rfl rfl)
theorem dX2_whenToGo_20 : decode cX2_whenToGo 20 = .ok (.invokevirtual 430, 3) := dk_182 1 174 (dk_at dksX2_whenToGo_0 20 rfl rfl)
theorem dX2_whenToGo_23 : decode cX2_whenToGo 23 = .ok (.istore 4, 2) := dk_54 4 (dk_at dksX2_whenToGo_1 0 rfl rfl)
theorem dX2_whenToGo_25 : decode cX2_whenToGo 25 = .ok (.aload_n 0, 1) := dk_42 (dk_at dksX2_whenToGo_1 2 rfl rfl)
theorem dX2_whenToGo_26 : decode cX2_whenToGo 26 = .ok (.invokevirtual 382, 3) := dk_182 1 126 (dk_at dksX2_whenToGo_1 3 rfl rfl)
theorem dX2_whenToGo_29 : decode cX2_whenToGo 29 = .ok (.iload 4, 2) := dk_21 4 (dk_at dksX2_whenToGo_1 6 rfl rfl)
theorem dX2_whenToGo_31 : decode cX2_whenToGo 31 = .ok (.iload_n 2, 1) := dk_28 (dk_at dksX2_whenToGo_1 8 rfl rfl)
theorem dX2_whenToGo_32 : decode cX2_whenToGo 32 = .ok (.if_icmp .lt 6, 3) := dk_161 0 6 (dk_at dksX2_whenToGo_1 9 rfl rfl)
theorem dX2_whenToGo_35 : decode cX2_whenToGo 35 = .ok (.goto 8, 3) := dk_167 0 8 (dk_at dksX2_whenToGo_1 12 rfl rfl)
theorem dX2_whenToGo_38 : decode cX2_whenToGo 38 = .ok (.iload 4, 2) := dk_21 4 (dk_at dksX2_whenToGo_1 15 rfl rfl)
theorem dX2_whenToGo_40 : decode cX2_whenToGo 40 = .ok (.istore_n 2, 1) := dk_61 (dk_at dksX2_whenToGo_1 17 rfl rfl)
theorem dX2_whenToGo_41 : decode cX2_whenToGo 41 = .ok (.iload_n 3, 1) := dk_29 (dk_at dksX2_whenToGo_1 18 rfl rfl)
theorem dX2_whenToGo_42 : decode cX2_whenToGo 42 = .ok (.istore_n 1, 1) := dk_60 (dk_at dksX2_whenToGo_1 19 rfl rfl)
theorem dX2_whenToGo_43 : decode cX2_whenToGo 43 = .ok (.iinc 3 1, 3) := dk_132 3 1 (dk_at dksX2_whenToGo_1 20 rfl rfl)
theorem dX2_whenToGo_46 : decode cX2_whenToGo 46 = .ok (.goto (-38), 3) := dk_167 255 218 (dk_at dksX2_whenToGo_2 0 rfl rfl)
theorem dX2_whenToGo_49 : decode cX2_whenToGo 49 = .ok (.iload_n 1, 1) := dk_27 (dk_at dksX2_whenToGo_2 3 rfl rfl)
theorem dX2_whenToGo_50 : decode cX2_whenToGo 50 = .ok (.ireturn, 1) := dk_172 (dk_at dksX2_whenToGo_2 4 rfl rfl)
abbrev cX2_goneBy : ByteArray := prog_19_method_114_code
def yX2_goneBy : MethodName := ⟨RX2, "goneBy", "(I)I"⟩
def dkwX2_goneBy_1 : List UInt8 := [154, 0, 9, 19, 1, 135, 167, 0, 4, 28, 172]
abbrev dktX2_goneBy_1 : List UInt8 := dkwX2_goneBy_1 ++ []
def dkwX2_goneBy_0 : List UInt8 := [42, 42, 180, 0, 7, 7, 46, 27, 182, 1, 165, 61, 28, 17, 0, 200, 160, 0, 16, 42, 182, 1, 91]
abbrev dktX2_goneBy_0 : List UInt8 := dkwX2_goneBy_0 ++ dktX2_goneBy_1
theorem dksX2_goneBy_0 : cX2_goneBy.data.toList.drop 0 = dktX2_goneBy_0 := by decide +kernel
theorem dksX2_goneBy_1 : cX2_goneBy.data.toList.drop 23 = dktX2_goneBy_1 := dk_seg dksX2_goneBy_0 23 rfl rfl
theorem dX2_goneBy_0 : decode cX2_goneBy 0 = .ok (.aload_n 0, 1) := dk_42 (dk_at dksX2_goneBy_0 0 rfl rfl)
theorem dX2_goneBy_1 : decode cX2_goneBy 1 = .ok (.aload_n 0, 1) := dk_42 (dk_at dksX2_goneBy_0 1 rfl rfl)
theorem dX2_goneBy_2 : decode cX2_goneBy 2 = .ok (.getfield 7, 3) := dk_180 0 7 (dk_at dksX2_goneBy_0 2 rfl rfl)
theorem dX2_goneBy_5 : decode cX2_goneBy 5 = .ok (.iconst 4, 1) := dk_7 (dk_at dksX2_goneBy_0 5 rfl rfl)
theorem dX2_goneBy_6 : decode cX2_goneBy 6 = .ok (.iaload, 1) := dk_46 (dk_at dksX2_goneBy_0 6 rfl rfl)
theorem dX2_goneBy_7 : decode cX2_goneBy 7 = .ok (.iload_n 1, 1) := dk_27 (dk_at dksX2_goneBy_0 7 rfl rfl)
theorem dX2_goneBy_8 : decode cX2_goneBy 8 = .ok (.invokevirtual 421, 3) := dk_182 1 165 (dk_at dksX2_goneBy_0 8 rfl rfl)
theorem dX2_goneBy_11 : decode cX2_goneBy 11 = .ok (.istore_n 2, 1) := dk_61 (dk_at dksX2_goneBy_0 11 rfl rfl)
theorem dX2_goneBy_12 : decode cX2_goneBy 12 = .ok (.iload_n 2, 1) := dk_28 (dk_at dksX2_goneBy_0 12 rfl rfl)
theorem dX2_goneBy_13 : decode cX2_goneBy 13 = .ok (.sipush 200, 3) := dk_17 0 200 (dk_at dksX2_goneBy_0 13 rfl rfl)
theorem dX2_goneBy_16 : decode cX2_goneBy 16 = .ok (.if_icmp .ne 16, 3) := dk_160 0 16 (dk_at dksX2_goneBy_0 16 rfl rfl)
theorem dX2_goneBy_19 : decode cX2_goneBy 19 = .ok (.aload_n 0, 1) := dk_42 (dk_at dksX2_goneBy_0 19 rfl rfl)
theorem dX2_goneBy_20 : decode cX2_goneBy 20 = .ok (.invokevirtual 347, 3) := dk_182 1 91 (dk_at dksX2_goneBy_0 20 rfl rfl)
theorem dX2_goneBy_23 : decode cX2_goneBy 23 = .ok (.ifCond .ne 9, 3) := dk_154 0 9 (dk_at dksX2_goneBy_1 0 rfl rfl)
theorem dX2_goneBy_26 : decode cX2_goneBy 26 = .ok (.ldc_w 391, 3) := dk_19 1 135 (dk_at dksX2_goneBy_1 3 rfl rfl)
theorem dX2_goneBy_29 : decode cX2_goneBy 29 = .ok (.goto 4, 3) := dk_167 0 4 (dk_at dksX2_goneBy_1 6 rfl rfl)
theorem dX2_goneBy_32 : decode cX2_goneBy 32 = .ok (.iload_n 2, 1) := dk_28 (dk_at dksX2_goneBy_1 9 rfl rfl)
theorem dX2_goneBy_33 : decode cX2_goneBy 33 = .ok (.ireturn, 1) := dk_172 (dk_at dksX2_goneBy_1 10 rfl rfl)
abbrev cX2_whichRope : ByteArray := prog_19_method_116_code
def yX2_whichRope : MethodName := ⟨RX2, "whichRope", "()I"⟩
def dkwX2_whichRope_2 : List UInt8 := [61, 29, 60, 132, 3, 1, 167, 255, 210, 27, 172]
abbrev dktX2_whichRope_2 : List UInt8 := dkwX2_whichRope_2 ++ []
def dkwX2_whichRope_1 : List UInt8 := [29, 79, 42, 3, 182, 1, 174, 54, 4, 42, 182, 1, 126, 21, 4, 28, 161, 0, 6, 167, 0, 8, 21, 4]
abbrev dktX2_whichRope_1 : List UInt8 := dkwX2_whichRope_1 ++ dktX2_whichRope_2
def dkwX2_whichRope_0 : List UInt8 := [2, 60, 19, 1, 135, 61, 4, 62, 29, 16, 25, 162, 0, 46, 42, 182, 1, 123, 42, 180, 0, 7, 16, 12]
abbrev dktX2_whichRope_0 : List UInt8 := dkwX2_whichRope_0 ++ dktX2_whichRope_1
theorem dksX2_whichRope_0 : cX2_whichRope.data.toList.drop 0 = dktX2_whichRope_0 := by decide +kernel
theorem dksX2_whichRope_1 : cX2_whichRope.data.toList.drop 24 = dktX2_whichRope_1 := dk_seg dksX2_whichRope_0 24 rfl rfl
theorem dksX2_whichRope_2 : cX2_whichRope.data.toList.drop 48 = dktX2_whichRope_2 := dk_seg dksX2_whichRope_1 24 rfl rfl
theorem dX2_whichRope_0 : decode cX2_whichRope 0 = .ok (.iconst (-1), 1) := dk_2 (dk_at dksX2_whichRope_0 0 rfl rfl)
theorem dX2_whichRope_1 : decode cX2_whichRope 1 = .ok (.istore_n 1, 1) := dk_60 (dk_at dksX2_whichRope_0 1 rfl rfl)
theorem dX2_whichRope_2 : decode cX2_whichRope 2 = .ok (.ldc_w 391, 3) := dk_19 1 135 (dk_at dksX2_whichRope_0 2 rfl rfl)
theorem dX2_whichRope_5 : decode cX2_whichRope 5 = .ok (.istore_n 2, 1) := dk_61 (dk_at dksX2_whichRope_0 5 rfl rfl)
theorem dX2_whichRope_6 : decode cX2_whichRope 6 = .ok (.iconst 1, 1) := dk_4 (dk_at dksX2_whichRope_0 6 rfl rfl)
theorem dX2_whichRope_7 : decode cX2_whichRope 7 = .ok (.istore_n 3, 1) := dk_62 (dk_at dksX2_whichRope_0 7 rfl rfl)
theorem dX2_whichRope_8 : decode cX2_whichRope 8 = .ok (.iload_n 3, 1) := dk_29 (dk_at dksX2_whichRope_0 8 rfl rfl)
theorem dX2_whichRope_9 : decode cX2_whichRope 9 = .ok (.bipush 25, 2) := dk_16 25 (dk_at dksX2_whichRope_0 9 rfl rfl)
theorem dX2_whichRope_11 : decode cX2_whichRope 11 = .ok (.if_icmp .ge 46, 3) := dk_162 0 46 (dk_at dksX2_whichRope_0 11 rfl rfl)
theorem dX2_whichRope_14 : decode cX2_whichRope 14 = .ok (.aload_n 0, 1) := dk_42 (dk_at dksX2_whichRope_0 14 rfl rfl)
theorem dX2_whichRope_15 : decode cX2_whichRope 15 = .ok (.invokevirtual 379, 3) := dk_182 1 123 (dk_at dksX2_whichRope_0 15 rfl rfl)
theorem dX2_whichRope_18 : decode cX2_whichRope 18 = .ok (.aload_n 0, 1) := dk_42 (dk_at dksX2_whichRope_0 18 rfl rfl)
theorem dX2_whichRope_19 : decode cX2_whichRope 19 = .ok (.getfield 7, 3) := dk_180 0 7 (dk_at dksX2_whichRope_0 19 rfl rfl)
theorem dX2_whichRope_22 : decode cX2_whichRope 22 = .ok (.bipush 12, 2) := dk_16 12 (dk_at dksX2_whichRope_0 22 rfl rfl)
theorem dX2_whichRope_24 : decode cX2_whichRope 24 = .ok (.iload_n 3, 1) := dk_29 (dk_at dksX2_whichRope_1 0 rfl rfl)
theorem dX2_whichRope_25 : decode cX2_whichRope 25 = .ok (.iastore, 1) := dk_79 (dk_at dksX2_whichRope_1 1 rfl rfl)
theorem dX2_whichRope_26 : decode cX2_whichRope 26 = .ok (.aload_n 0, 1) := dk_42 (dk_at dksX2_whichRope_1 2 rfl rfl)
theorem dX2_whichRope_27 : decode cX2_whichRope 27 = .ok (.iconst 0, 1) := dk_3 (dk_at dksX2_whichRope_1 3 rfl rfl)
theorem dX2_whichRope_28 : decode cX2_whichRope 28 = .ok (.invokevirtual 430, 3) := dk_182 1 174 (dk_at dksX2_whichRope_1 4 rfl rfl)
theorem dX2_whichRope_31 : decode cX2_whichRope 31 = .ok (.istore 4, 2) := dk_54 4 (dk_at dksX2_whichRope_1 7 rfl rfl)
theorem dX2_whichRope_33 : decode cX2_whichRope 33 = .ok (.aload_n 0, 1) := dk_42 (dk_at dksX2_whichRope_1 9 rfl rfl)
theorem dX2_whichRope_34 : decode cX2_whichRope 34 = .ok (.invokevirtual 382, 3) := dk_182 1 126 (dk_at dksX2_whichRope_1 10 rfl rfl)
theorem dX2_whichRope_37 : decode cX2_whichRope 37 = .ok (.iload 4, 2) := dk_21 4 (dk_at dksX2_whichRope_1 13 rfl rfl)
theorem dX2_whichRope_39 : decode cX2_whichRope 39 = .ok (.iload_n 2, 1) := dk_28 (dk_at dksX2_whichRope_1 15 rfl rfl)
theorem dX2_whichRope_40 : decode cX2_whichRope 40 = .ok (.if_icmp .lt 6, 3) := dk_161 0 6 (dk_at dksX2_whichRope_1 16 rfl rfl)
theorem dX2_whichRope_43 : decode cX2_whichRope 43 = .ok (.goto 8, 3) := dk_167 0 8 (dk_at dksX2_whichRope_1 19 rfl rfl)
theorem dX2_whichRope_46 : decode cX2_whichRope 46 = .ok (.iload 4, 2) := dk_21 4 (dk_at dksX2_whichRope_1 22 rfl rfl)
theorem dX2_whichRope_48 : decode cX2_whichRope 48 = .ok (.istore_n 2, 1) := dk_61 (dk_at dksX2_whichRope_2 0 rfl rfl)
theorem dX2_whichRope_49 : decode cX2_whichRope 49 = .ok (.iload_n 3, 1) := dk_29 (dk_at dksX2_whichRope_2 1 rfl rfl)
theorem dX2_whichRope_50 : decode cX2_whichRope 50 = .ok (.istore_n 1, 1) := dk_60 (dk_at dksX2_whichRope_2 2 rfl rfl)
theorem dX2_whichRope_51 : decode cX2_whichRope 51 = .ok (.iinc 3 1, 3) := dk_132 3 1 (dk_at dksX2_whichRope_2 3 rfl rfl)
theorem dX2_whichRope_54 : decode cX2_whichRope 54 = .ok (.goto (-46), 3) := dk_167 255 210 (dk_at dksX2_whichRope_2 6 rfl rfl)
theorem dX2_whichRope_57 : decode cX2_whichRope 57 = .ok (.iload_n 1, 1) := dk_27 (dk_at dksX2_whichRope_2 9 rfl rfl)
theorem dX2_whichRope_58 : decode cX2_whichRope 58 = .ok (.ireturn, 1) := dk_172 (dk_at dksX2_whichRope_2 10 rfl rfl)
abbrev cX2_bar : ByteArray := prog_19_method_117_code
def yX2_bar : MethodName := ⟨RX2, "bar", "(IIII)I"⟩
def dkwX2_bar_6 : List UInt8 := [79, 42, 180, 0, 7, 16, 18, 46, 172]
abbrev dktX2_bar_6 : List UInt8 := dkwX2_bar_6 ++ []
def dkwX2_bar_5 : List UInt8 := [96, 29, 79, 42, 180, 0, 7, 21, 5, 6, 96, 21, 4, 79, 42, 180, 0, 7, 16, 18, 92, 46, 4, 96]
abbrev dktX2_bar_5 : List UInt8 := dkwX2_bar_5 ++ dktX2_bar_6
def dkwX2_bar_4 : List UInt8 := [180, 0, 7, 21, 5, 27, 79, 42, 180, 0, 7, 21, 5, 4, 96, 28, 79, 42, 180, 0, 7, 21, 5, 5]
abbrev dktX2_bar_4 : List UInt8 := dkwX2_bar_4 ++ dktX2_bar_5
def dkwX2_bar_3 : List UInt8 := [160, 0, 6, 16, 254, 172, 17, 38, 90, 7, 42, 180, 0, 7, 16, 18, 46, 104, 96, 54, 5, 42]
abbrev dktX2_bar_3 : List UInt8 := dkwX2_bar_3 ++ dktX2_bar_4
def dkwX2_bar_2 : List UInt8 := [153, 0, 26, 21, 4, 29, 17, 39, 15, 184, 0, 71, 153, 0, 14, 42, 180, 0, 7, 16, 18, 46, 7]
abbrev dktX2_bar_2 : List UInt8 := dkwX2_bar_2 ++ dktX2_bar_3
def dkwX2_bar_1 : List UInt8 := [153, 0, 48, 28, 27, 17, 2, 88, 184, 0, 71, 153, 0, 37, 29, 3, 17, 39, 15, 184, 0, 71]
abbrev dktX2_bar_1 : List UInt8 := dkwX2_bar_1 ++ dktX2_bar_2
def dkwX2_bar_0 : List UInt8 := [27, 2, 160, 0, 13, 42, 180, 0, 7, 16, 18, 3, 79, 3, 172, 27, 3, 17, 2, 88, 184, 0, 71]
abbrev dktX2_bar_0 : List UInt8 := dkwX2_bar_0 ++ dktX2_bar_1
theorem dksX2_bar_0 : cX2_bar.data.toList.drop 0 = dktX2_bar_0 := by decide +kernel
theorem dksX2_bar_1 : cX2_bar.data.toList.drop 23 = dktX2_bar_1 := dk_seg dksX2_bar_0 23 rfl rfl
theorem dksX2_bar_2 : cX2_bar.data.toList.drop 45 = dktX2_bar_2 := dk_seg dksX2_bar_1 22 rfl rfl
theorem dksX2_bar_3 : cX2_bar.data.toList.drop 68 = dktX2_bar_3 := dk_seg dksX2_bar_2 23 rfl rfl
theorem dksX2_bar_4 : cX2_bar.data.toList.drop 90 = dktX2_bar_4 := dk_seg dksX2_bar_3 22 rfl rfl
theorem dksX2_bar_5 : cX2_bar.data.toList.drop 114 = dktX2_bar_5 := dk_seg dksX2_bar_4 24 rfl rfl
theorem dksX2_bar_6 : cX2_bar.data.toList.drop 138 = dktX2_bar_6 := dk_seg dksX2_bar_5 24 rfl rfl
theorem dX2_bar_0 : decode cX2_bar 0 = .ok (.iload_n 1, 1) := dk_27 (dk_at dksX2_bar_0 0 rfl rfl)
theorem dX2_bar_1 : decode cX2_bar 1 = .ok (.iconst (-1), 1) := dk_2 (dk_at dksX2_bar_0 1 rfl rfl)
theorem dX2_bar_2 : decode cX2_bar 2 = .ok (.if_icmp .ne 13, 3) := dk_160 0 13 (dk_at dksX2_bar_0 2 rfl rfl)
theorem dX2_bar_5 : decode cX2_bar 5 = .ok (.aload_n 0, 1) := dk_42 (dk_at dksX2_bar_0 5 rfl rfl)
theorem dX2_bar_6 : decode cX2_bar 6 = .ok (.getfield 7, 3) := dk_180 0 7 (dk_at dksX2_bar_0 6 rfl rfl)
theorem dX2_bar_9 : decode cX2_bar 9 = .ok (.bipush 18, 2) := dk_16 18 (dk_at dksX2_bar_0 9 rfl rfl)
theorem dX2_bar_11 : decode cX2_bar 11 = .ok (.iconst 0, 1) := dk_3 (dk_at dksX2_bar_0 11 rfl rfl)
theorem dX2_bar_12 : decode cX2_bar 12 = .ok (.iastore, 1) := dk_79 (dk_at dksX2_bar_0 12 rfl rfl)
theorem dX2_bar_13 : decode cX2_bar 13 = .ok (.iconst 0, 1) := dk_3 (dk_at dksX2_bar_0 13 rfl rfl)
theorem dX2_bar_14 : decode cX2_bar 14 = .ok (.ireturn, 1) := dk_172 (dk_at dksX2_bar_0 14 rfl rfl)
theorem dX2_bar_15 : decode cX2_bar 15 = .ok (.iload_n 1, 1) := dk_27 (dk_at dksX2_bar_0 15 rfl rfl)
theorem dX2_bar_16 : decode cX2_bar 16 = .ok (.iconst 0, 1) := dk_3 (dk_at dksX2_bar_0 16 rfl rfl)
theorem dX2_bar_17 : decode cX2_bar 17 = .ok (.sipush 600, 3) := dk_17 2 88 (dk_at dksX2_bar_0 17 rfl rfl)
theorem dX2_bar_20 : decode cX2_bar 20 = .ok (.invokestatic 71, 3) := dk_184 0 71 (dk_at dksX2_bar_0 20 rfl rfl)
theorem dX2_bar_23 : decode cX2_bar 23 = .ok (.ifCond .eq 48, 3) := dk_153 0 48 (dk_at dksX2_bar_1 0 rfl rfl)
theorem dX2_bar_26 : decode cX2_bar 26 = .ok (.iload_n 2, 1) := dk_28 (dk_at dksX2_bar_1 3 rfl rfl)
theorem dX2_bar_27 : decode cX2_bar 27 = .ok (.iload_n 1, 1) := dk_27 (dk_at dksX2_bar_1 4 rfl rfl)
theorem dX2_bar_28 : decode cX2_bar 28 = .ok (.sipush 600, 3) := dk_17 2 88 (dk_at dksX2_bar_1 5 rfl rfl)
theorem dX2_bar_31 : decode cX2_bar 31 = .ok (.invokestatic 71, 3) := dk_184 0 71 (dk_at dksX2_bar_1 8 rfl rfl)
theorem dX2_bar_34 : decode cX2_bar 34 = .ok (.ifCond .eq 37, 3) := dk_153 0 37 (dk_at dksX2_bar_1 11 rfl rfl)
theorem dX2_bar_37 : decode cX2_bar 37 = .ok (.iload_n 3, 1) := dk_29 (dk_at dksX2_bar_1 14 rfl rfl)
theorem dX2_bar_38 : decode cX2_bar 38 = .ok (.iconst 0, 1) := dk_3 (dk_at dksX2_bar_1 15 rfl rfl)
theorem dX2_bar_39 : decode cX2_bar 39 = .ok (.sipush 9999, 3) := dk_17 39 15 (dk_at dksX2_bar_1 16 rfl rfl)
theorem dX2_bar_42 : decode cX2_bar 42 = .ok (.invokestatic 71, 3) := dk_184 0 71 (dk_at dksX2_bar_1 19 rfl rfl)
theorem dX2_bar_45 : decode cX2_bar 45 = .ok (.ifCond .eq 26, 3) := dk_153 0 26 (dk_at dksX2_bar_2 0 rfl rfl)
theorem dX2_bar_48 : decode cX2_bar 48 = .ok (.iload 4, 2) := dk_21 4 (dk_at dksX2_bar_2 3 rfl rfl)
theorem dX2_bar_50 : decode cX2_bar 50 = .ok (.iload_n 3, 1) := dk_29 (dk_at dksX2_bar_2 5 rfl rfl)
theorem dX2_bar_51 : decode cX2_bar 51 = .ok (.sipush 9999, 3) := dk_17 39 15 (dk_at dksX2_bar_2 6 rfl rfl)
theorem dX2_bar_54 : decode cX2_bar 54 = .ok (.invokestatic 71, 3) := dk_184 0 71 (dk_at dksX2_bar_2 9 rfl rfl)
theorem dX2_bar_57 : decode cX2_bar 57 = .ok (.ifCond .eq 14, 3) := dk_153 0 14 (dk_at dksX2_bar_2 12 rfl rfl)
theorem dX2_bar_60 : decode cX2_bar 60 = .ok (.aload_n 0, 1) := dk_42 (dk_at dksX2_bar_2 15 rfl rfl)
theorem dX2_bar_61 : decode cX2_bar 61 = .ok (.getfield 7, 3) := dk_180 0 7 (dk_at dksX2_bar_2 16 rfl rfl)
theorem dX2_bar_64 : decode cX2_bar 64 = .ok (.bipush 18, 2) := dk_16 18 (dk_at dksX2_bar_2 19 rfl rfl)
theorem dX2_bar_66 : decode cX2_bar 66 = .ok (.iaload, 1) := dk_46 (dk_at dksX2_bar_2 21 rfl rfl)
theorem dX2_bar_67 : decode cX2_bar 67 = .ok (.iconst 4, 1) := dk_7 (dk_at dksX2_bar_2 22 rfl rfl)
theorem dX2_bar_68 : decode cX2_bar 68 = .ok (.if_icmp .ne 6, 3) := dk_160 0 6 (dk_at dksX2_bar_3 0 rfl rfl)
theorem dX2_bar_71 : decode cX2_bar 71 = .ok (.bipush (-2), 2) := dk_16 254 (dk_at dksX2_bar_3 3 rfl rfl)
theorem dX2_bar_73 : decode cX2_bar 73 = .ok (.ireturn, 1) := dk_172 (dk_at dksX2_bar_3 5 rfl rfl)
theorem dX2_bar_74 : decode cX2_bar 74 = .ok (.sipush 9818, 3) := dk_17 38 90 (dk_at dksX2_bar_3 6 rfl rfl)
theorem dX2_bar_77 : decode cX2_bar 77 = .ok (.iconst 4, 1) := dk_7 (dk_at dksX2_bar_3 9 rfl rfl)
theorem dX2_bar_78 : decode cX2_bar 78 = .ok (.aload_n 0, 1) := dk_42 (dk_at dksX2_bar_3 10 rfl rfl)
theorem dX2_bar_79 : decode cX2_bar 79 = .ok (.getfield 7, 3) := dk_180 0 7 (dk_at dksX2_bar_3 11 rfl rfl)
theorem dX2_bar_82 : decode cX2_bar 82 = .ok (.bipush 18, 2) := dk_16 18 (dk_at dksX2_bar_3 14 rfl rfl)
theorem dX2_bar_84 : decode cX2_bar 84 = .ok (.iaload, 1) := dk_46 (dk_at dksX2_bar_3 16 rfl rfl)
theorem dX2_bar_85 : decode cX2_bar 85 = .ok (.imul, 1) := dk_104 (dk_at dksX2_bar_3 17 rfl rfl)
theorem dX2_bar_86 : decode cX2_bar 86 = .ok (.iadd, 1) := dk_96 (dk_at dksX2_bar_3 18 rfl rfl)
theorem dX2_bar_87 : decode cX2_bar 87 = .ok (.istore 5, 2) := dk_54 5 (dk_at dksX2_bar_3 19 rfl rfl)
theorem dX2_bar_89 : decode cX2_bar 89 = .ok (.aload_n 0, 1) := dk_42 (dk_at dksX2_bar_3 21 rfl rfl)
theorem dX2_bar_90 : decode cX2_bar 90 = .ok (.getfield 7, 3) := dk_180 0 7 (dk_at dksX2_bar_4 0 rfl rfl)
theorem dX2_bar_93 : decode cX2_bar 93 = .ok (.iload 5, 2) := dk_21 5 (dk_at dksX2_bar_4 3 rfl rfl)
theorem dX2_bar_95 : decode cX2_bar 95 = .ok (.iload_n 1, 1) := dk_27 (dk_at dksX2_bar_4 5 rfl rfl)
theorem dX2_bar_96 : decode cX2_bar 96 = .ok (.iastore, 1) := dk_79 (dk_at dksX2_bar_4 6 rfl rfl)
theorem dX2_bar_97 : decode cX2_bar 97 = .ok (.aload_n 0, 1) := dk_42 (dk_at dksX2_bar_4 7 rfl rfl)
theorem dX2_bar_98 : decode cX2_bar 98 = .ok (.getfield 7, 3) := dk_180 0 7 (dk_at dksX2_bar_4 8 rfl rfl)
theorem dX2_bar_101 : decode cX2_bar 101 = .ok (.iload 5, 2) := dk_21 5 (dk_at dksX2_bar_4 11 rfl rfl)
theorem dX2_bar_103 : decode cX2_bar 103 = .ok (.iconst 1, 1) := dk_4 (dk_at dksX2_bar_4 13 rfl rfl)
theorem dX2_bar_104 : decode cX2_bar 104 = .ok (.iadd, 1) := dk_96 (dk_at dksX2_bar_4 14 rfl rfl)
theorem dX2_bar_105 : decode cX2_bar 105 = .ok (.iload_n 2, 1) := dk_28 (dk_at dksX2_bar_4 15 rfl rfl)
theorem dX2_bar_106 : decode cX2_bar 106 = .ok (.iastore, 1) := dk_79 (dk_at dksX2_bar_4 16 rfl rfl)
theorem dX2_bar_107 : decode cX2_bar 107 = .ok (.aload_n 0, 1) := dk_42 (dk_at dksX2_bar_4 17 rfl rfl)
theorem dX2_bar_108 : decode cX2_bar 108 = .ok (.getfield 7, 3) := dk_180 0 7 (dk_at dksX2_bar_4 18 rfl rfl)
theorem dX2_bar_111 : decode cX2_bar 111 = .ok (.iload 5, 2) := dk_21 5 (dk_at dksX2_bar_4 21 rfl rfl)
theorem dX2_bar_113 : decode cX2_bar 113 = .ok (.iconst 2, 1) := dk_5 (dk_at dksX2_bar_4 23 rfl rfl)
theorem dX2_bar_114 : decode cX2_bar 114 = .ok (.iadd, 1) := dk_96 (dk_at dksX2_bar_5 0 rfl rfl)
theorem dX2_bar_115 : decode cX2_bar 115 = .ok (.iload_n 3, 1) := dk_29 (dk_at dksX2_bar_5 1 rfl rfl)
theorem dX2_bar_116 : decode cX2_bar 116 = .ok (.iastore, 1) := dk_79 (dk_at dksX2_bar_5 2 rfl rfl)
theorem dX2_bar_117 : decode cX2_bar 117 = .ok (.aload_n 0, 1) := dk_42 (dk_at dksX2_bar_5 3 rfl rfl)
theorem dX2_bar_118 : decode cX2_bar 118 = .ok (.getfield 7, 3) := dk_180 0 7 (dk_at dksX2_bar_5 4 rfl rfl)
theorem dX2_bar_121 : decode cX2_bar 121 = .ok (.iload 5, 2) := dk_21 5 (dk_at dksX2_bar_5 7 rfl rfl)
theorem dX2_bar_123 : decode cX2_bar 123 = .ok (.iconst 3, 1) := dk_6 (dk_at dksX2_bar_5 9 rfl rfl)
theorem dX2_bar_124 : decode cX2_bar 124 = .ok (.iadd, 1) := dk_96 (dk_at dksX2_bar_5 10 rfl rfl)
theorem dX2_bar_125 : decode cX2_bar 125 = .ok (.iload 4, 2) := dk_21 4 (dk_at dksX2_bar_5 11 rfl rfl)
theorem dX2_bar_127 : decode cX2_bar 127 = .ok (.iastore, 1) := dk_79 (dk_at dksX2_bar_5 13 rfl rfl)
theorem dX2_bar_128 : decode cX2_bar 128 = .ok (.aload_n 0, 1) := dk_42 (dk_at dksX2_bar_5 14 rfl rfl)
theorem dX2_bar_129 : decode cX2_bar 129 = .ok (.getfield 7, 3) := dk_180 0 7 (dk_at dksX2_bar_5 15 rfl rfl)
theorem dX2_bar_132 : decode cX2_bar 132 = .ok (.bipush 18, 2) := dk_16 18 (dk_at dksX2_bar_5 18 rfl rfl)
theorem dX2_bar_134 : decode cX2_bar 134 = .ok (.dup2, 1) := dk_92 (dk_at dksX2_bar_5 20 rfl rfl)
theorem dX2_bar_135 : decode cX2_bar 135 = .ok (.iaload, 1) := dk_46 (dk_at dksX2_bar_5 21 rfl rfl)
theorem dX2_bar_136 : decode cX2_bar 136 = .ok (.iconst 1, 1) := dk_4 (dk_at dksX2_bar_5 22 rfl rfl)
theorem dX2_bar_137 : decode cX2_bar 137 = .ok (.iadd, 1) := dk_96 (dk_at dksX2_bar_5 23 rfl rfl)
theorem dX2_bar_138 : decode cX2_bar 138 = .ok (.iastore, 1) := dk_79 (dk_at dksX2_bar_6 0 rfl rfl)
theorem dX2_bar_139 : decode cX2_bar 139 = .ok (.aload_n 0, 1) := dk_42 (dk_at dksX2_bar_6 1 rfl rfl)
theorem dX2_bar_140 : decode cX2_bar 140 = .ok (.getfield 7, 3) := dk_180 0 7 (dk_at dksX2_bar_6 2 rfl rfl)
theorem dX2_bar_143 : decode cX2_bar 143 = .ok (.bipush 18, 2) := dk_16 18 (dk_at dksX2_bar_6 5 rfl rfl)
theorem dX2_bar_145 : decode cX2_bar 145 = .ok (.iaload, 1) := dk_46 (dk_at dksX2_bar_6 7 rfl rfl)
theorem dX2_bar_146 : decode cX2_bar 146 = .ok (.ireturn, 1) := dk_172 (dk_at dksX2_bar_6 8 rfl rfl)
abbrev cX2_barred : ByteArray := prog_19_method_119_code
def yX2_barred : MethodName := ⟨RX2, "barred", "(IZ)I"⟩
def dkwX2_barred_3 : List UInt8 := [182, 1, 126, 29, 172]
abbrev dktX2_barred_3 : List UInt8 := dkwX2_barred_3 ++ []
def dkwX2_barred_2 : List UInt8 := [167, 0, 4, 3, 182, 1, 76, 42, 182, 1, 177, 153, 0, 6, 21, 4, 62, 132, 4, 1, 167, 255, 210, 42]
abbrev dktX2_barred_2 : List UInt8 := dkwX2_barred_2 ++ dktX2_barred_3
def dkwX2_barred_1 : List UInt8 := [27, 163, 0, 46, 29, 2, 160, 0, 41, 42, 28, 153, 0, 16, 42, 42, 180, 0, 7, 7, 46, 182, 1, 82]
abbrev dktX2_barred_1 : List UInt8 := dkwX2_barred_1 ++ dktX2_barred_2
def dkwX2_barred_0 : List UInt8 := [27, 4, 17, 0, 200, 184, 0, 71, 154, 0, 5, 2, 172, 42, 182, 1, 123, 2, 62, 4, 54, 4, 21, 4]
abbrev dktX2_barred_0 : List UInt8 := dkwX2_barred_0 ++ dktX2_barred_1
theorem dksX2_barred_0 : cX2_barred.data.toList.drop 0 = dktX2_barred_0 := by decide +kernel
theorem dksX2_barred_1 : cX2_barred.data.toList.drop 24 = dktX2_barred_1 := dk_seg dksX2_barred_0 24 rfl rfl
theorem dksX2_barred_2 : cX2_barred.data.toList.drop 48 = dktX2_barred_2 := dk_seg dksX2_barred_1 24 rfl rfl
theorem dksX2_barred_3 : cX2_barred.data.toList.drop 72 = dktX2_barred_3 := dk_seg dksX2_barred_2 24 rfl rfl
theorem dX2_barred_0 : decode cX2_barred 0 = .ok (.iload_n 1, 1) := dk_27 (dk_at dksX2_barred_0 0 rfl rfl)
theorem dX2_barred_1 : decode cX2_barred 1 = .ok (.iconst 1, 1) := dk_4 (dk_at dksX2_barred_0 1 rfl rfl)
theorem dX2_barred_2 : decode cX2_barred 2 = .ok (.sipush 200, 3) := dk_17 0 200 (dk_at dksX2_barred_0 2 rfl rfl)
theorem dX2_barred_5 : decode cX2_barred 5 = .ok (.invokestatic 71, 3) := dk_184 0 71 (dk_at dksX2_barred_0 5 rfl rfl)
theorem dX2_barred_8 : decode cX2_barred 8 = .ok (.ifCond .ne 5, 3) := dk_154 0 5 (dk_at dksX2_barred_0 8 rfl rfl)
theorem dX2_barred_11 : decode cX2_barred 11 = .ok (.iconst (-1), 1) := dk_2 (dk_at dksX2_barred_0 11 rfl rfl)
theorem dX2_barred_12 : decode cX2_barred 12 = .ok (.ireturn, 1) := dk_172 (dk_at dksX2_barred_0 12 rfl rfl)
theorem dX2_barred_13 : decode cX2_barred 13 = .ok (.aload_n 0, 1) := dk_42 (dk_at dksX2_barred_0 13 rfl rfl)
theorem dX2_barred_14 : decode cX2_barred 14 = .ok (.invokevirtual 379, 3) := dk_182 1 123 (dk_at dksX2_barred_0 14 rfl rfl)
theorem dX2_barred_17 : decode cX2_barred 17 = .ok (.iconst (-1), 1) := dk_2 (dk_at dksX2_barred_0 17 rfl rfl)
theorem dX2_barred_18 : decode cX2_barred 18 = .ok (.istore_n 3, 1) := dk_62 (dk_at dksX2_barred_0 18 rfl rfl)
theorem dX2_barred_19 : decode cX2_barred 19 = .ok (.iconst 1, 1) := dk_4 (dk_at dksX2_barred_0 19 rfl rfl)
theorem dX2_barred_20 : decode cX2_barred 20 = .ok (.istore 4, 2) := dk_54 4 (dk_at dksX2_barred_0 20 rfl rfl)
theorem dX2_barred_22 : decode cX2_barred 22 = .ok (.iload 4, 2) := dk_21 4 (dk_at dksX2_barred_0 22 rfl rfl)
theorem dX2_barred_24 : decode cX2_barred 24 = .ok (.iload_n 1, 1) := dk_27 (dk_at dksX2_barred_1 0 rfl rfl)
theorem dX2_barred_25 : decode cX2_barred 25 = .ok (.if_icmp .gt 46, 3) := dk_163 0 46 (dk_at dksX2_barred_1 1 rfl rfl)
theorem dX2_barred_28 : decode cX2_barred 28 = .ok (.iload_n 3, 1) := dk_29 (dk_at dksX2_barred_1 4 rfl rfl)
theorem dX2_barred_29 : decode cX2_barred 29 = .ok (.iconst (-1), 1) := dk_2 (dk_at dksX2_barred_1 5 rfl rfl)
theorem dX2_barred_30 : decode cX2_barred 30 = .ok (.if_icmp .ne 41, 3) := dk_160 0 41 (dk_at dksX2_barred_1 6 rfl rfl)
theorem dX2_barred_33 : decode cX2_barred 33 = .ok (.aload_n 0, 1) := dk_42 (dk_at dksX2_barred_1 9 rfl rfl)
theorem dX2_barred_34 : decode cX2_barred 34 = .ok (.iload_n 2, 1) := dk_28 (dk_at dksX2_barred_1 10 rfl rfl)
theorem dX2_barred_35 : decode cX2_barred 35 = .ok (.ifCond .eq 16, 3) := dk_153 0 16 (dk_at dksX2_barred_1 11 rfl rfl)
theorem dX2_barred_38 : decode cX2_barred 38 = .ok (.aload_n 0, 1) := dk_42 (dk_at dksX2_barred_1 14 rfl rfl)
theorem dX2_barred_39 : decode cX2_barred 39 = .ok (.aload_n 0, 1) := dk_42 (dk_at dksX2_barred_1 15 rfl rfl)
theorem dX2_barred_40 : decode cX2_barred 40 = .ok (.getfield 7, 3) := dk_180 0 7 (dk_at dksX2_barred_1 16 rfl rfl)
theorem dX2_barred_43 : decode cX2_barred 43 = .ok (.iconst 4, 1) := dk_7 (dk_at dksX2_barred_1 19 rfl rfl)
theorem dX2_barred_44 : decode cX2_barred 44 = .ok (.iaload, 1) := dk_46 (dk_at dksX2_barred_1 20 rfl rfl)
theorem dX2_barred_45 : decode cX2_barred 45 = .ok (.invokevirtual 338, 3) := dk_182 1 82 (dk_at dksX2_barred_1 21 rfl rfl)
theorem dX2_barred_48 : decode cX2_barred 48 = .ok (.goto 4, 3) := dk_167 0 4 (dk_at dksX2_barred_2 0 rfl rfl)
theorem dX2_barred_51 : decode cX2_barred 51 = .ok (.iconst 0, 1) := dk_3 (dk_at dksX2_barred_2 3 rfl rfl)
theorem dX2_barred_52 : decode cX2_barred 52 = .ok (.invokevirtual 332, 3) := dk_182 1 76 (dk_at dksX2_barred_2 4 rfl rfl)
theorem dX2_barred_55 : decode cX2_barred 55 = .ok (.aload_n 0, 1) := dk_42 (dk_at dksX2_barred_2 7 rfl rfl)
theorem dX2_barred_56 : decode cX2_barred 56 = .ok (.invokevirtual 433, 3) := dk_182 1 177 (dk_at dksX2_barred_2 8 rfl rfl)
theorem dX2_barred_59 : decode cX2_barred 59 = .ok (.ifCond .eq 6, 3) := dk_153 0 6 (dk_at dksX2_barred_2 11 rfl rfl)
theorem dX2_barred_62 : decode cX2_barred 62 = .ok (.iload 4, 2) := dk_21 4 (dk_at dksX2_barred_2 14 rfl rfl)
theorem dX2_barred_64 : decode cX2_barred 64 = .ok (.istore_n 3, 1) := dk_62 (dk_at dksX2_barred_2 16 rfl rfl)
theorem dX2_barred_65 : decode cX2_barred 65 = .ok (.iinc 4 1, 3) := dk_132 4 1 (dk_at dksX2_barred_2 17 rfl rfl)
theorem dX2_barred_68 : decode cX2_barred 68 = .ok (.goto (-46), 3) := dk_167 255 210 (dk_at dksX2_barred_2 20 rfl rfl)
theorem dX2_barred_71 : decode cX2_barred 71 = .ok (.aload_n 0, 1) := dk_42 (dk_at dksX2_barred_2 23 rfl rfl)
theorem dX2_barred_72 : decode cX2_barred 72 = .ok (.invokevirtual 382, 3) := dk_182 1 126 (dk_at dksX2_barred_3 0 rfl rfl)
theorem dX2_barred_75 : decode cX2_barred 75 = .ok (.iload_n 3, 1) := dk_29 (dk_at dksX2_barred_3 3 rfl rfl)
theorem dX2_barred_76 : decode cX2_barred 76 = .ok (.ireturn, 1) := dk_172 (dk_at dksX2_barred_3 4 rfl rfl)
abbrev cX2_isBarred : ByteArray := prog_19_method_118_code
def yX2_isBarred : MethodName := ⟨RX2, "isBarred", "()Z"⟩
def dkwX2_isBarred_3 : List UInt8 := [96, 46, 184, 0, 71, 153, 0, 5, 4, 172, 132, 1, 1, 167, 255, 176, 3, 172]
abbrev dktX2_isBarred_3 : List UInt8 := dkwX2_isBarred_3 ++ []
def dkwX2_isBarred_2 : List UInt8 := [153, 0, 34, 42, 180, 0, 7, 16, 16, 46, 42, 180, 0, 7, 28, 5, 96, 46, 42, 180, 0, 7, 28, 6]
abbrev dktX2_isBarred_2 : List UInt8 := dkwX2_isBarred_2 ++ dktX2_isBarred_3
def dkwX2_isBarred_1 : List UInt8 := [180, 0, 7, 16, 8, 46, 42, 180, 0, 7, 28, 46, 42, 180, 0, 7, 28, 4, 96, 46, 184, 0, 71]
abbrev dktX2_isBarred_1 : List UInt8 := dkwX2_isBarred_1 ++ dktX2_isBarred_2
def dkwX2_isBarred_0 : List UInt8 := [3, 60, 27, 42, 180, 0, 7, 16, 18, 46, 162, 0, 75, 17, 38, 90, 7, 27, 104, 96, 61, 42]
abbrev dktX2_isBarred_0 : List UInt8 := dkwX2_isBarred_0 ++ dktX2_isBarred_1
theorem dksX2_isBarred_0 : cX2_isBarred.data.toList.drop 0 = dktX2_isBarred_0 := by decide +kernel
theorem dksX2_isBarred_1 : cX2_isBarred.data.toList.drop 22 = dktX2_isBarred_1 := dk_seg dksX2_isBarred_0 22 rfl rfl
theorem dksX2_isBarred_2 : cX2_isBarred.data.toList.drop 45 = dktX2_isBarred_2 := dk_seg dksX2_isBarred_1 23 rfl rfl
theorem dksX2_isBarred_3 : cX2_isBarred.data.toList.drop 69 = dktX2_isBarred_3 := dk_seg dksX2_isBarred_2 24 rfl rfl
theorem dX2_isBarred_0 : decode cX2_isBarred 0 = .ok (.iconst 0, 1) := dk_3 (dk_at dksX2_isBarred_0 0 rfl rfl)
theorem dX2_isBarred_1 : decode cX2_isBarred 1 = .ok (.istore_n 1, 1) := dk_60 (dk_at dksX2_isBarred_0 1 rfl rfl)
theorem dX2_isBarred_2 : decode cX2_isBarred 2 = .ok (.iload_n 1, 1) := dk_27 (dk_at dksX2_isBarred_0 2 rfl rfl)
theorem dX2_isBarred_3 : decode cX2_isBarred 3 = .ok (.aload_n 0, 1) := dk_42 (dk_at dksX2_isBarred_0 3 rfl rfl)
theorem dX2_isBarred_4 : decode cX2_isBarred 4 = .ok (.getfield 7, 3) := dk_180 0 7 (dk_at dksX2_isBarred_0 4 rfl rfl)
theorem dX2_isBarred_7 : decode cX2_isBarred 7 = .ok (.bipush 18, 2) := dk_16 18 (dk_at dksX2_isBarred_0 7 rfl rfl)
theorem dX2_isBarred_9 : decode cX2_isBarred 9 = .ok (.iaload, 1) := dk_46 (dk_at dksX2_isBarred_0 9 rfl rfl)
theorem dX2_isBarred_10 : decode cX2_isBarred 10 = .ok (.if_icmp .ge 75, 3) := dk_162 0 75 (dk_at dksX2_isBarred_0 10 rfl rfl)
theorem dX2_isBarred_13 : decode cX2_isBarred 13 = .ok (.sipush 9818, 3) := dk_17 38 90 (dk_at dksX2_isBarred_0 13 rfl rfl)
theorem dX2_isBarred_16 : decode cX2_isBarred 16 = .ok (.iconst 4, 1) := dk_7 (dk_at dksX2_isBarred_0 16 rfl rfl)
theorem dX2_isBarred_17 : decode cX2_isBarred 17 = .ok (.iload_n 1, 1) := dk_27 (dk_at dksX2_isBarred_0 17 rfl rfl)
theorem dX2_isBarred_18 : decode cX2_isBarred 18 = .ok (.imul, 1) := dk_104 (dk_at dksX2_isBarred_0 18 rfl rfl)
theorem dX2_isBarred_19 : decode cX2_isBarred 19 = .ok (.iadd, 1) := dk_96 (dk_at dksX2_isBarred_0 19 rfl rfl)
theorem dX2_isBarred_20 : decode cX2_isBarred 20 = .ok (.istore_n 2, 1) := dk_61 (dk_at dksX2_isBarred_0 20 rfl rfl)
theorem dX2_isBarred_21 : decode cX2_isBarred 21 = .ok (.aload_n 0, 1) := dk_42 (dk_at dksX2_isBarred_0 21 rfl rfl)
theorem dX2_isBarred_22 : decode cX2_isBarred 22 = .ok (.getfield 7, 3) := dk_180 0 7 (dk_at dksX2_isBarred_1 0 rfl rfl)
theorem dX2_isBarred_25 : decode cX2_isBarred 25 = .ok (.bipush 8, 2) := dk_16 8 (dk_at dksX2_isBarred_1 3 rfl rfl)
theorem dX2_isBarred_27 : decode cX2_isBarred 27 = .ok (.iaload, 1) := dk_46 (dk_at dksX2_isBarred_1 5 rfl rfl)
theorem dX2_isBarred_28 : decode cX2_isBarred 28 = .ok (.aload_n 0, 1) := dk_42 (dk_at dksX2_isBarred_1 6 rfl rfl)
theorem dX2_isBarred_29 : decode cX2_isBarred 29 = .ok (.getfield 7, 3) := dk_180 0 7 (dk_at dksX2_isBarred_1 7 rfl rfl)
theorem dX2_isBarred_32 : decode cX2_isBarred 32 = .ok (.iload_n 2, 1) := dk_28 (dk_at dksX2_isBarred_1 10 rfl rfl)
theorem dX2_isBarred_33 : decode cX2_isBarred 33 = .ok (.iaload, 1) := dk_46 (dk_at dksX2_isBarred_1 11 rfl rfl)
theorem dX2_isBarred_34 : decode cX2_isBarred 34 = .ok (.aload_n 0, 1) := dk_42 (dk_at dksX2_isBarred_1 12 rfl rfl)
theorem dX2_isBarred_35 : decode cX2_isBarred 35 = .ok (.getfield 7, 3) := dk_180 0 7 (dk_at dksX2_isBarred_1 13 rfl rfl)
theorem dX2_isBarred_38 : decode cX2_isBarred 38 = .ok (.iload_n 2, 1) := dk_28 (dk_at dksX2_isBarred_1 16 rfl rfl)
theorem dX2_isBarred_39 : decode cX2_isBarred 39 = .ok (.iconst 1, 1) := dk_4 (dk_at dksX2_isBarred_1 17 rfl rfl)
theorem dX2_isBarred_40 : decode cX2_isBarred 40 = .ok (.iadd, 1) := dk_96 (dk_at dksX2_isBarred_1 18 rfl rfl)
theorem dX2_isBarred_41 : decode cX2_isBarred 41 = .ok (.iaload, 1) := dk_46 (dk_at dksX2_isBarred_1 19 rfl rfl)
theorem dX2_isBarred_42 : decode cX2_isBarred 42 = .ok (.invokestatic 71, 3) := dk_184 0 71 (dk_at dksX2_isBarred_1 20 rfl rfl)
theorem dX2_isBarred_45 : decode cX2_isBarred 45 = .ok (.ifCond .eq 34, 3) := dk_153 0 34 (dk_at dksX2_isBarred_2 0 rfl rfl)
theorem dX2_isBarred_48 : decode cX2_isBarred 48 = .ok (.aload_n 0, 1) := dk_42 (dk_at dksX2_isBarred_2 3 rfl rfl)
theorem dX2_isBarred_49 : decode cX2_isBarred 49 = .ok (.getfield 7, 3) := dk_180 0 7 (dk_at dksX2_isBarred_2 4 rfl rfl)
theorem dX2_isBarred_52 : decode cX2_isBarred 52 = .ok (.bipush 16, 2) := dk_16 16 (dk_at dksX2_isBarred_2 7 rfl rfl)
theorem dX2_isBarred_54 : decode cX2_isBarred 54 = .ok (.iaload, 1) := dk_46 (dk_at dksX2_isBarred_2 9 rfl rfl)
theorem dX2_isBarred_55 : decode cX2_isBarred 55 = .ok (.aload_n 0, 1) := dk_42 (dk_at dksX2_isBarred_2 10 rfl rfl)
theorem dX2_isBarred_56 : decode cX2_isBarred 56 = .ok (.getfield 7, 3) := dk_180 0 7 (dk_at dksX2_isBarred_2 11 rfl rfl)
theorem dX2_isBarred_59 : decode cX2_isBarred 59 = .ok (.iload_n 2, 1) := dk_28 (dk_at dksX2_isBarred_2 14 rfl rfl)
theorem dX2_isBarred_60 : decode cX2_isBarred 60 = .ok (.iconst 2, 1) := dk_5 (dk_at dksX2_isBarred_2 15 rfl rfl)
theorem dX2_isBarred_61 : decode cX2_isBarred 61 = .ok (.iadd, 1) := dk_96 (dk_at dksX2_isBarred_2 16 rfl rfl)
theorem dX2_isBarred_62 : decode cX2_isBarred 62 = .ok (.iaload, 1) := dk_46 (dk_at dksX2_isBarred_2 17 rfl rfl)
theorem dX2_isBarred_63 : decode cX2_isBarred 63 = .ok (.aload_n 0, 1) := dk_42 (dk_at dksX2_isBarred_2 18 rfl rfl)
theorem dX2_isBarred_64 : decode cX2_isBarred 64 = .ok (.getfield 7, 3) := dk_180 0 7 (dk_at dksX2_isBarred_2 19 rfl rfl)
theorem dX2_isBarred_67 : decode cX2_isBarred 67 = .ok (.iload_n 2, 1) := dk_28 (dk_at dksX2_isBarred_2 22 rfl rfl)
theorem dX2_isBarred_68 : decode cX2_isBarred 68 = .ok (.iconst 3, 1) := dk_6 (dk_at dksX2_isBarred_2 23 rfl rfl)
theorem dX2_isBarred_69 : decode cX2_isBarred 69 = .ok (.iadd, 1) := dk_96 (dk_at dksX2_isBarred_3 0 rfl rfl)
theorem dX2_isBarred_70 : decode cX2_isBarred 70 = .ok (.iaload, 1) := dk_46 (dk_at dksX2_isBarred_3 1 rfl rfl)
theorem dX2_isBarred_71 : decode cX2_isBarred 71 = .ok (.invokestatic 71, 3) := dk_184 0 71 (dk_at dksX2_isBarred_3 2 rfl rfl)
theorem dX2_isBarred_74 : decode cX2_isBarred 74 = .ok (.ifCond .eq 5, 3) := dk_153 0 5 (dk_at dksX2_isBarred_3 5 rfl rfl)
theorem dX2_isBarred_77 : decode cX2_isBarred 77 = .ok (.iconst 1, 1) := dk_4 (dk_at dksX2_isBarred_3 8 rfl rfl)
theorem dX2_isBarred_78 : decode cX2_isBarred 78 = .ok (.ireturn, 1) := dk_172 (dk_at dksX2_isBarred_3 9 rfl rfl)
theorem dX2_isBarred_79 : decode cX2_isBarred 79 = .ok (.iinc 1 1, 3) := dk_132 1 1 (dk_at dksX2_isBarred_3 10 rfl rfl)
theorem dX2_isBarred_82 : decode cX2_isBarred 82 = .ok (.goto (-80), 3) := dk_167 255 176 (dk_at dksX2_isBarred_3 13 rfl rfl)
theorem dX2_isBarred_85 : decode cX2_isBarred 85 = .ok (.iconst 0, 1) := dk_3 (dk_at dksX2_isBarred_3 16 rfl rfl)
theorem dX2_isBarred_86 : decode cX2_isBarred 86 = .ok (.ireturn, 1) := dk_172 (dk_at dksX2_isBarred_3 17 rfl rfl)
abbrev cX2_dayEnds : ByteArray := prog_19_method_120_code
def yX2_dayEnds : MethodName := ⟨RX2, "dayEnds", "(II)I"⟩
def dkwX2_dayEnds_2 : List UInt8 := [167, 255, 235, 2, 172]
abbrev dktX2_dayEnds_2 : List UInt8 := dkwX2_dayEnds_2 ++ []
def dkwX2_dayEnds_1 : List UInt8 := [4, 62, 29, 16, 10, 162, 0, 21, 42, 29, 27, 28, 182, 1, 180, 153, 0, 5, 29, 172, 132, 3, 1]
abbrev dktX2_dayEnds_1 : List UInt8 := dkwX2_dayEnds_1 ++ dktX2_dayEnds_2
def dkwX2_dayEnds_0 : List UInt8 := [27, 4, 17, 0, 200, 184, 0, 71, 153, 0, 14, 28, 3, 17, 39, 15, 184, 0, 71, 154, 0, 5, 2, 172]
abbrev dktX2_dayEnds_0 : List UInt8 := dkwX2_dayEnds_0 ++ dktX2_dayEnds_1
theorem dksX2_dayEnds_0 : cX2_dayEnds.data.toList.drop 0 = dktX2_dayEnds_0 := by decide +kernel
theorem dksX2_dayEnds_1 : cX2_dayEnds.data.toList.drop 24 = dktX2_dayEnds_1 := dk_seg dksX2_dayEnds_0 24 rfl rfl
theorem dksX2_dayEnds_2 : cX2_dayEnds.data.toList.drop 47 = dktX2_dayEnds_2 := dk_seg dksX2_dayEnds_1 23 rfl rfl
theorem dX2_dayEnds_0 : decode cX2_dayEnds 0 = .ok (.iload_n 1, 1) := dk_27 (dk_at dksX2_dayEnds_0 0 rfl rfl)
theorem dX2_dayEnds_1 : decode cX2_dayEnds 1 = .ok (.iconst 1, 1) := dk_4 (dk_at dksX2_dayEnds_0 1 rfl rfl)
theorem dX2_dayEnds_2 : decode cX2_dayEnds 2 = .ok (.sipush 200, 3) := dk_17 0 200 (dk_at dksX2_dayEnds_0 2 rfl rfl)
theorem dX2_dayEnds_5 : decode cX2_dayEnds 5 = .ok (.invokestatic 71, 3) := dk_184 0 71 (dk_at dksX2_dayEnds_0 5 rfl rfl)
theorem dX2_dayEnds_8 : decode cX2_dayEnds 8 = .ok (.ifCond .eq 14, 3) := dk_153 0 14 (dk_at dksX2_dayEnds_0 8 rfl rfl)
theorem dX2_dayEnds_11 : decode cX2_dayEnds 11 = .ok (.iload_n 2, 1) := dk_28 (dk_at dksX2_dayEnds_0 11 rfl rfl)
theorem dX2_dayEnds_12 : decode cX2_dayEnds 12 = .ok (.iconst 0, 1) := dk_3 (dk_at dksX2_dayEnds_0 12 rfl rfl)
theorem dX2_dayEnds_13 : decode cX2_dayEnds 13 = .ok (.sipush 9999, 3) := dk_17 39 15 (dk_at dksX2_dayEnds_0 13 rfl rfl)
theorem dX2_dayEnds_16 : decode cX2_dayEnds 16 = .ok (.invokestatic 71, 3) := dk_184 0 71 (dk_at dksX2_dayEnds_0 16 rfl rfl)
theorem dX2_dayEnds_19 : decode cX2_dayEnds 19 = .ok (.ifCond .ne 5, 3) := dk_154 0 5 (dk_at dksX2_dayEnds_0 19 rfl rfl)
theorem dX2_dayEnds_22 : decode cX2_dayEnds 22 = .ok (.iconst (-1), 1) := dk_2 (dk_at dksX2_dayEnds_0 22 rfl rfl)
theorem dX2_dayEnds_23 : decode cX2_dayEnds 23 = .ok (.ireturn, 1) := dk_172 (dk_at dksX2_dayEnds_0 23 rfl rfl)
theorem dX2_dayEnds_24 : decode cX2_dayEnds 24 = .ok (.iconst 1, 1) := dk_4 (dk_at dksX2_dayEnds_1 0 rfl rfl)
theorem dX2_dayEnds_25 : decode cX2_dayEnds 25 = .ok (.istore_n 3, 1) := dk_62 (dk_at dksX2_dayEnds_1 1 rfl rfl)
theorem dX2_dayEnds_26 : decode cX2_dayEnds 26 = .ok (.iload_n 3, 1) := dk_29 (dk_at dksX2_dayEnds_1 2 rfl rfl)
theorem dX2_dayEnds_27 : decode cX2_dayEnds 27 = .ok (.bipush 10, 2) := dk_16 10 (dk_at dksX2_dayEnds_1 3 rfl rfl)
theorem dX2_dayEnds_29 : decode cX2_dayEnds 29 = .ok (.if_icmp .ge 21, 3) := dk_162 0 21 (dk_at dksX2_dayEnds_1 5 rfl rfl)
theorem dX2_dayEnds_32 : decode cX2_dayEnds 32 = .ok (.aload_n 0, 1) := dk_42 (dk_at dksX2_dayEnds_1 8 rfl rfl)
theorem dX2_dayEnds_33 : decode cX2_dayEnds 33 = .ok (.iload_n 3, 1) := dk_29 (dk_at dksX2_dayEnds_1 9 rfl rfl)
theorem dX2_dayEnds_34 : decode cX2_dayEnds 34 = .ok (.iload_n 1, 1) := dk_27 (dk_at dksX2_dayEnds_1 10 rfl rfl)
theorem dX2_dayEnds_35 : decode cX2_dayEnds 35 = .ok (.iload_n 2, 1) := dk_28 (dk_at dksX2_dayEnds_1 11 rfl rfl)
theorem dX2_dayEnds_36 : decode cX2_dayEnds 36 = .ok (.invokevirtual 436, 3) := dk_182 1 180 (dk_at dksX2_dayEnds_1 12 rfl rfl)
theorem dX2_dayEnds_39 : decode cX2_dayEnds 39 = .ok (.ifCond .eq 5, 3) := dk_153 0 5 (dk_at dksX2_dayEnds_1 15 rfl rfl)
theorem dX2_dayEnds_42 : decode cX2_dayEnds 42 = .ok (.iload_n 3, 1) := dk_29 (dk_at dksX2_dayEnds_1 18 rfl rfl)
theorem dX2_dayEnds_43 : decode cX2_dayEnds 43 = .ok (.ireturn, 1) := dk_172 (dk_at dksX2_dayEnds_1 19 rfl rfl)
theorem dX2_dayEnds_44 : decode cX2_dayEnds 44 = .ok (.iinc 3 1, 3) := dk_132 3 1 (dk_at dksX2_dayEnds_1 20 rfl rfl)
theorem dX2_dayEnds_47 : decode cX2_dayEnds 47 = .ok (.goto (-21), 3) := dk_167 255 235 (dk_at dksX2_dayEnds_2 0 rfl rfl)
theorem dX2_dayEnds_50 : decode cX2_dayEnds 50 = .ok (.iconst (-1), 1) := dk_2 (dk_at dksX2_dayEnds_2 3 rfl rfl)
theorem dX2_dayEnds_51 : decode cX2_dayEnds 51 = .ok (.ireturn, 1) := dk_172 (dk_at dksX2_dayEnds_2 4 rfl rfl)
abbrev cX2_isTooMuch : ByteArray := prog_19_method_108_code
def yX2_isTooMuch : MethodName := ⟨RX2, "isTooMuch", "(III)Z"⟩
def dkwX2_isTooMuch_2 : List UInt8 := [164, 0, 7, 4, 167, 0, 4, 3, 54, 4, 132, 5, 1, 167, 255, 219, 42, 182, 1, 126, 21, 4, 172]
abbrev dktX2_isTooMuch_2 : List UInt8 := dkwX2_isTooMuch_2 ++ []
def dkwX2_isTooMuch_1 : List UInt8 := [21, 5, 28, 162, 0, 37, 21, 4, 154, 0, 32, 42, 3, 182, 1, 76, 42, 182, 1, 36, 184, 1, 67, 29]
abbrev dktX2_isTooMuch_1 : List UInt8 := dkwX2_isTooMuch_1 ++ dktX2_isTooMuch_2
def dkwX2_isTooMuch_0 : List UInt8 := [42, 182, 1, 123, 42, 180, 0, 7, 16, 14, 27, 79, 42, 4, 181, 1, 61, 3, 54, 4, 3, 54, 5]
abbrev dktX2_isTooMuch_0 : List UInt8 := dkwX2_isTooMuch_0 ++ dktX2_isTooMuch_1
theorem dksX2_isTooMuch_0 : cX2_isTooMuch.data.toList.drop 0 = dktX2_isTooMuch_0 := by decide +kernel
theorem dksX2_isTooMuch_1 : cX2_isTooMuch.data.toList.drop 23 = dktX2_isTooMuch_1 := dk_seg dksX2_isTooMuch_0 23 rfl rfl
theorem dksX2_isTooMuch_2 : cX2_isTooMuch.data.toList.drop 47 = dktX2_isTooMuch_2 := dk_seg dksX2_isTooMuch_1 24 rfl rfl
theorem dX2_isTooMuch_0 : decode cX2_isTooMuch 0 = .ok (.aload_n 0, 1) := dk_42 (dk_at dksX2_isTooMuch_0 0 rfl rfl)
theorem dX2_isTooMuch_1 : decode cX2_isTooMuch 1 = .ok (.invokevirtual 379, 3) := dk_182 1 123 (dk_at dksX2_isTooMuch_0 1 rfl rfl)
theorem dX2_isTooMuch_4 : decode cX2_isTooMuch 4 = .ok (.aload_n 0, 1) := dk_42 (dk_at dksX2_isTooMuch_0 4 rfl rfl)
theorem dX2_isTooMuch_5 : decode cX2_isTooMuch 5 = .ok (.getfield 7, 3) := dk_180 0 7 (dk_at dksX2_isTooMuch_0 5 rfl rfl)
theorem dX2_isTooMuch_8 : decode cX2_isTooMuch 8 = .ok (.bipush 14, 2) := dk_16 14 (dk_at dksX2_isTooMuch_0 8 rfl rfl)
theorem dX2_isTooMuch_10 : decode cX2_isTooMuch 10 = .ok (.iload_n 1, 1) := dk_27 (dk_at dksX2_isTooMuch_0 10 rfl rfl)
theorem dX2_isTooMuch_11 : decode cX2_isTooMuch 11 = .ok (.iastore, 1) := dk_79 (dk_at dksX2_isTooMuch_0 11 rfl rfl)
theorem dX2_isTooMuch_12 : decode cX2_isTooMuch 12 = .ok (.aload_n 0, 1) := dk_42 (dk_at dksX2_isTooMuch_0 12 rfl rfl)
theorem dX2_isTooMuch_13 : decode cX2_isTooMuch 13 = .ok (.iconst 1, 1) := dk_4 (dk_at dksX2_isTooMuch_0 13 rfl rfl)
theorem dX2_isTooMuch_14 : decode cX2_isTooMuch 14 = .ok (.putfield 317, 3) := dk_181 1 61 (dk_at dksX2_isTooMuch_0 14 rfl rfl)
theorem dX2_isTooMuch_17 : decode cX2_isTooMuch 17 = .ok (.iconst 0, 1) := dk_3 (dk_at dksX2_isTooMuch_0 17 rfl rfl)
theorem dX2_isTooMuch_18 : decode cX2_isTooMuch 18 = .ok (.istore 4, 2) := dk_54 4 (dk_at dksX2_isTooMuch_0 18 rfl rfl)
theorem dX2_isTooMuch_20 : decode cX2_isTooMuch 20 = .ok (.iconst 0, 1) := dk_3 (dk_at dksX2_isTooMuch_0 20 rfl rfl)
theorem dX2_isTooMuch_21 : decode cX2_isTooMuch 21 = .ok (.istore 5, 2) := dk_54 5 (dk_at dksX2_isTooMuch_0 21 rfl rfl)
theorem dX2_isTooMuch_23 : decode cX2_isTooMuch 23 = .ok (.iload 5, 2) := dk_21 5 (dk_at dksX2_isTooMuch_1 0 rfl rfl)
theorem dX2_isTooMuch_25 : decode cX2_isTooMuch 25 = .ok (.iload_n 2, 1) := dk_28 (dk_at dksX2_isTooMuch_1 2 rfl rfl)
theorem dX2_isTooMuch_26 : decode cX2_isTooMuch 26 = .ok (.if_icmp .ge 37, 3) := dk_162 0 37 (dk_at dksX2_isTooMuch_1 3 rfl rfl)
theorem dX2_isTooMuch_29 : decode cX2_isTooMuch 29 = .ok (.iload 4, 2) := dk_21 4 (dk_at dksX2_isTooMuch_1 6 rfl rfl)
theorem dX2_isTooMuch_31 : decode cX2_isTooMuch 31 = .ok (.ifCond .ne 32, 3) := dk_154 0 32 (dk_at dksX2_isTooMuch_1 8 rfl rfl)
theorem dX2_isTooMuch_34 : decode cX2_isTooMuch 34 = .ok (.aload_n 0, 1) := dk_42 (dk_at dksX2_isTooMuch_1 11 rfl rfl)
theorem dX2_isTooMuch_35 : decode cX2_isTooMuch 35 = .ok (.iconst 0, 1) := dk_3 (dk_at dksX2_isTooMuch_1 12 rfl rfl)
theorem dX2_isTooMuch_36 : decode cX2_isTooMuch 36 = .ok (.invokevirtual 332, 3) := dk_182 1 76 (dk_at dksX2_isTooMuch_1 13 rfl rfl)
theorem dX2_isTooMuch_39 : decode cX2_isTooMuch 39 = .ok (.aload_n 0, 1) := dk_42 (dk_at dksX2_isTooMuch_1 16 rfl rfl)
theorem dX2_isTooMuch_40 : decode cX2_isTooMuch 40 = .ok (.invokevirtual 292, 3) := dk_182 1 36 (dk_at dksX2_isTooMuch_1 17 rfl rfl)
theorem dX2_isTooMuch_43 : decode cX2_isTooMuch 43 = .ok (.invokestatic 323, 3) := dk_184 1 67 (dk_at dksX2_isTooMuch_1 20 rfl rfl)
theorem dX2_isTooMuch_46 : decode cX2_isTooMuch 46 = .ok (.iload_n 3, 1) := dk_29 (dk_at dksX2_isTooMuch_1 23 rfl rfl)
theorem dX2_isTooMuch_47 : decode cX2_isTooMuch 47 = .ok (.if_icmp .le 7, 3) := dk_164 0 7 (dk_at dksX2_isTooMuch_2 0 rfl rfl)
theorem dX2_isTooMuch_50 : decode cX2_isTooMuch 50 = .ok (.iconst 1, 1) := dk_4 (dk_at dksX2_isTooMuch_2 3 rfl rfl)
theorem dX2_isTooMuch_51 : decode cX2_isTooMuch 51 = .ok (.goto 4, 3) := dk_167 0 4 (dk_at dksX2_isTooMuch_2 4 rfl rfl)
theorem dX2_isTooMuch_54 : decode cX2_isTooMuch 54 = .ok (.iconst 0, 1) := dk_3 (dk_at dksX2_isTooMuch_2 7 rfl rfl)
theorem dX2_isTooMuch_55 : decode cX2_isTooMuch 55 = .ok (.istore 4, 2) := dk_54 4 (dk_at dksX2_isTooMuch_2 8 rfl rfl)
theorem dX2_isTooMuch_57 : decode cX2_isTooMuch 57 = .ok (.iinc 5 1, 3) := dk_132 5 1 (dk_at dksX2_isTooMuch_2 10 rfl rfl)
theorem dX2_isTooMuch_60 : decode cX2_isTooMuch 60 = .ok (.goto (-37), 3) := dk_167 255 219 (dk_at dksX2_isTooMuch_2 13 rfl rfl)
theorem dX2_isTooMuch_63 : decode cX2_isTooMuch 63 = .ok (.aload_n 0, 1) := dk_42 (dk_at dksX2_isTooMuch_2 16 rfl rfl)
theorem dX2_isTooMuch_64 : decode cX2_isTooMuch 64 = .ok (.invokevirtual 382, 3) := dk_182 1 126 (dk_at dksX2_isTooMuch_2 17 rfl rfl)
theorem dX2_isTooMuch_67 : decode cX2_isTooMuch 67 = .ok (.iload 4, 2) := dk_21 4 (dk_at dksX2_isTooMuch_2 20 rfl rfl)
theorem dX2_isTooMuch_69 : decode cX2_isTooMuch 69 = .ok (.ireturn, 1) := dk_172 (dk_at dksX2_isTooMuch_2 22 rfl rfl)
abbrev cX2_howFar : ByteArray := prog_19_method_121_code
def yX2_howFar : MethodName := ⟨RX2, "howFar", "(I)I"⟩
def dkwX2_howFar_1 : List UInt8 := [182, 1, 117, 27, 161, 0, 9, 132, 2, 1, 167, 255, 238, 28, 4, 100, 172]
abbrev dktX2_howFar_1 : List UInt8 := dkwX2_howFar_1 ++ []
def dkwX2_howFar_0 : List UInt8 := [27, 4, 16, 99, 184, 0, 71, 154, 0, 5, 2, 172, 3, 61, 28, 16, 61, 162, 0, 18, 42, 28]
abbrev dktX2_howFar_0 : List UInt8 := dkwX2_howFar_0 ++ dktX2_howFar_1
theorem dksX2_howFar_0 : cX2_howFar.data.toList.drop 0 = dktX2_howFar_0 := by decide +kernel
theorem dksX2_howFar_1 : cX2_howFar.data.toList.drop 22 = dktX2_howFar_1 := dk_seg dksX2_howFar_0 22 rfl rfl
theorem dX2_howFar_0 : decode cX2_howFar 0 = .ok (.iload_n 1, 1) := dk_27 (dk_at dksX2_howFar_0 0 rfl rfl)
theorem dX2_howFar_1 : decode cX2_howFar 1 = .ok (.iconst 1, 1) := dk_4 (dk_at dksX2_howFar_0 1 rfl rfl)
theorem dX2_howFar_2 : decode cX2_howFar 2 = .ok (.bipush 99, 2) := dk_16 99 (dk_at dksX2_howFar_0 2 rfl rfl)
theorem dX2_howFar_4 : decode cX2_howFar 4 = .ok (.invokestatic 71, 3) := dk_184 0 71 (dk_at dksX2_howFar_0 4 rfl rfl)
theorem dX2_howFar_7 : decode cX2_howFar 7 = .ok (.ifCond .ne 5, 3) := dk_154 0 5 (dk_at dksX2_howFar_0 7 rfl rfl)
theorem dX2_howFar_10 : decode cX2_howFar 10 = .ok (.iconst (-1), 1) := dk_2 (dk_at dksX2_howFar_0 10 rfl rfl)
theorem dX2_howFar_11 : decode cX2_howFar 11 = .ok (.ireturn, 1) := dk_172 (dk_at dksX2_howFar_0 11 rfl rfl)
theorem dX2_howFar_12 : decode cX2_howFar 12 = .ok (.iconst 0, 1) := dk_3 (dk_at dksX2_howFar_0 12 rfl rfl)
theorem dX2_howFar_13 : decode cX2_howFar 13 = .ok (.istore_n 2, 1) := dk_61 (dk_at dksX2_howFar_0 13 rfl rfl)
theorem dX2_howFar_14 : decode cX2_howFar 14 = .ok (.iload_n 2, 1) := dk_28 (dk_at dksX2_howFar_0 14 rfl rfl)
theorem dX2_howFar_15 : decode cX2_howFar 15 = .ok (.bipush 61, 2) := dk_16 61 (dk_at dksX2_howFar_0 15 rfl rfl)
theorem dX2_howFar_17 : decode cX2_howFar 17 = .ok (.if_icmp .ge 18, 3) := dk_162 0 18 (dk_at dksX2_howFar_0 17 rfl rfl)
theorem dX2_howFar_20 : decode cX2_howFar 20 = .ok (.aload_n 0, 1) := dk_42 (dk_at dksX2_howFar_0 20 rfl rfl)
theorem dX2_howFar_21 : decode cX2_howFar 21 = .ok (.iload_n 2, 1) := dk_28 (dk_at dksX2_howFar_0 21 rfl rfl)
theorem dX2_howFar_22 : decode cX2_howFar 22 = .ok (.invokevirtual 373, 3) := dk_182 1 117 (dk_at dksX2_howFar_1 0 rfl rfl)
theorem dX2_howFar_25 : decode cX2_howFar 25 = .ok (.iload_n 1, 1) := dk_27 (dk_at dksX2_howFar_1 3 rfl rfl)
theorem dX2_howFar_26 : decode cX2_howFar 26 = .ok (.if_icmp .lt 9, 3) := dk_161 0 9 (dk_at dksX2_howFar_1 4 rfl rfl)
theorem dX2_howFar_29 : decode cX2_howFar 29 = .ok (.iinc 2 1, 3) := dk_132 2 1 (dk_at dksX2_howFar_1 7 rfl rfl)
theorem dX2_howFar_32 : decode cX2_howFar 32 = .ok (.goto (-18), 3) := dk_167 255 238 (dk_at dksX2_howFar_1 10 rfl rfl)
theorem dX2_howFar_35 : decode cX2_howFar 35 = .ok (.iload_n 2, 1) := dk_28 (dk_at dksX2_howFar_1 13 rfl rfl)
theorem dX2_howFar_36 : decode cX2_howFar 36 = .ok (.iconst 1, 1) := dk_4 (dk_at dksX2_howFar_1 14 rfl rfl)
theorem dX2_howFar_37 : decode cX2_howFar 37 = .ok (.isub, 1) := dk_100 (dk_at dksX2_howFar_1 15 rfl rfl)
theorem dX2_howFar_38 : decode cX2_howFar 38 = .ok (.ireturn, 1) := dk_172 (dk_at dksX2_howFar_1 16 rfl rfl)
abbrev cX2_over : ByteArray := prog_19_method_122_code
def yX2_over : MethodName := ⟨RX2, "over", "()I"⟩
def dkwX2_over_2 : List UInt8 := [167, 255, 214, 27, 172]
abbrev dktX2_over_2 : List UInt8 := dkwX2_over_2 ++ []
def dkwX2_over_1 : List UInt8 := [4, 182, 1, 39, 182, 1, 117, 164, 0, 9, 4, 28, 120, 167, 0, 4, 3, 128, 60, 132, 2, 1]
abbrev dktX2_over_1 : List UInt8 := dkwX2_over_1 ++ dktX2_over_2
def dkwX2_over_0 : List UInt8 := [3, 60, 3, 61, 28, 42, 180, 0, 7, 3, 46, 162, 0, 38, 27, 42, 28, 3, 182, 1, 39, 42, 42, 28]
abbrev dktX2_over_0 : List UInt8 := dkwX2_over_0 ++ dktX2_over_1
theorem dksX2_over_0 : cX2_over.data.toList.drop 0 = dktX2_over_0 := by decide +kernel
theorem dksX2_over_1 : cX2_over.data.toList.drop 24 = dktX2_over_1 := dk_seg dksX2_over_0 24 rfl rfl
theorem dksX2_over_2 : cX2_over.data.toList.drop 46 = dktX2_over_2 := dk_seg dksX2_over_1 22 rfl rfl
theorem dX2_over_0 : decode cX2_over 0 = .ok (.iconst 0, 1) := dk_3 (dk_at dksX2_over_0 0 rfl rfl)
theorem dX2_over_1 : decode cX2_over 1 = .ok (.istore_n 1, 1) := dk_60 (dk_at dksX2_over_0 1 rfl rfl)
theorem dX2_over_2 : decode cX2_over 2 = .ok (.iconst 0, 1) := dk_3 (dk_at dksX2_over_0 2 rfl rfl)
theorem dX2_over_3 : decode cX2_over 3 = .ok (.istore_n 2, 1) := dk_61 (dk_at dksX2_over_0 3 rfl rfl)
theorem dX2_over_4 : decode cX2_over 4 = .ok (.iload_n 2, 1) := dk_28 (dk_at dksX2_over_0 4 rfl rfl)
theorem dX2_over_5 : decode cX2_over 5 = .ok (.aload_n 0, 1) := dk_42 (dk_at dksX2_over_0 5 rfl rfl)
theorem dX2_over_6 : decode cX2_over 6 = .ok (.getfield 7, 3) := dk_180 0 7 (dk_at dksX2_over_0 6 rfl rfl)
theorem dX2_over_9 : decode cX2_over 9 = .ok (.iconst 0, 1) := dk_3 (dk_at dksX2_over_0 9 rfl rfl)
theorem dX2_over_10 : decode cX2_over 10 = .ok (.iaload, 1) := dk_46 (dk_at dksX2_over_0 10 rfl rfl)
theorem dX2_over_11 : decode cX2_over 11 = .ok (.if_icmp .ge 38, 3) := dk_162 0 38 (dk_at dksX2_over_0 11 rfl rfl)
theorem dX2_over_14 : decode cX2_over 14 = .ok (.iload_n 1, 1) := dk_27 (dk_at dksX2_over_0 14 rfl rfl)
theorem dX2_over_15 : decode cX2_over 15 = .ok (.aload_n 0, 1) := dk_42 (dk_at dksX2_over_0 15 rfl rfl)
theorem dX2_over_16 : decode cX2_over 16 = .ok (.iload_n 2, 1) := dk_28 (dk_at dksX2_over_0 16 rfl rfl)
theorem dX2_over_17 : decode cX2_over 17 = .ok (.iconst 0, 1) := dk_3 (dk_at dksX2_over_0 17 rfl rfl)
theorem dX2_over_18 : decode cX2_over 18 = .ok (.invokevirtual 295, 3) := dk_182 1 39 (dk_at dksX2_over_0 18 rfl rfl)
theorem dX2_over_21 : decode cX2_over 21 = .ok (.aload_n 0, 1) := dk_42 (dk_at dksX2_over_0 21 rfl rfl)
theorem dX2_over_22 : decode cX2_over 22 = .ok (.aload_n 0, 1) := dk_42 (dk_at dksX2_over_0 22 rfl rfl)
theorem dX2_over_23 : decode cX2_over 23 = .ok (.iload_n 2, 1) := dk_28 (dk_at dksX2_over_0 23 rfl rfl)
theorem dX2_over_24 : decode cX2_over 24 = .ok (.iconst 1, 1) := dk_4 (dk_at dksX2_over_1 0 rfl rfl)
theorem dX2_over_25 : decode cX2_over 25 = .ok (.invokevirtual 295, 3) := dk_182 1 39 (dk_at dksX2_over_1 1 rfl rfl)
theorem dX2_over_28 : decode cX2_over 28 = .ok (.invokevirtual 373, 3) := dk_182 1 117 (dk_at dksX2_over_1 4 rfl rfl)
theorem dX2_over_31 : decode cX2_over 31 = .ok (.if_icmp .le 9, 3) := dk_164 0 9 (dk_at dksX2_over_1 7 rfl rfl)
theorem dX2_over_34 : decode cX2_over 34 = .ok (.iconst 1, 1) := dk_4 (dk_at dksX2_over_1 10 rfl rfl)
theorem dX2_over_35 : decode cX2_over 35 = .ok (.iload_n 2, 1) := dk_28 (dk_at dksX2_over_1 11 rfl rfl)
theorem dX2_over_36 : decode cX2_over 36 = .ok (.ishl, 1) := dk_120 (dk_at dksX2_over_1 12 rfl rfl)
theorem dX2_over_37 : decode cX2_over 37 = .ok (.goto 4, 3) := dk_167 0 4 (dk_at dksX2_over_1 13 rfl rfl)
theorem dX2_over_40 : decode cX2_over 40 = .ok (.iconst 0, 1) := dk_3 (dk_at dksX2_over_1 16 rfl rfl)
theorem dX2_over_41 : decode cX2_over 41 = .ok (.ior, 1) := dk_128 (dk_at dksX2_over_1 17 rfl rfl)
theorem dX2_over_42 : decode cX2_over 42 = .ok (.istore_n 1, 1) := dk_60 (dk_at dksX2_over_1 18 rfl rfl)
theorem dX2_over_43 : decode cX2_over 43 = .ok (.iinc 2 1, 3) := dk_132 2 1 (dk_at dksX2_over_1 19 rfl rfl)
theorem dX2_over_46 : decode cX2_over 46 = .ok (.goto (-42), 3) := dk_167 255 214 (dk_at dksX2_over_2 0 rfl rfl)
theorem dX2_over_49 : decode cX2_over 49 = .ok (.iload_n 1, 1) := dk_27 (dk_at dksX2_over_2 3 rfl rfl)
theorem dX2_over_50 : decode cX2_over 50 = .ok (.ireturn, 1) := dk_172 (dk_at dksX2_over_2 4 rfl rfl)
abbrev cX2_first : ByteArray := prog_19_method_126_code
def yX2_first : MethodName := ⟨RX2, "first", "(II)I"⟩
def dkwX2_first_5 : List UInt8 := [162, 0, 12, 42, 180, 0, 58, 28, 46, 167, 0, 4, 2, 172]
abbrev dktX2_first_5 : List UInt8 := dkwX2_first_5 ++ []
def dkwX2_first_4 : List UInt8 := [167, 255, 184, 29, 156, 0, 5, 2, 172, 28, 2, 160, 0, 7, 29, 167, 0, 21, 28, 42, 180, 1, 186]
abbrev dktX2_first_4 : List UInt8 := dkwX2_first_4 ++ dktX2_first_5
def dkwX2_first_3 : List UInt8 := [180, 0, 49, 42, 180, 0, 55, 21, 6, 46, 46, 79, 132, 6, 1, 167, 255, 225, 42, 182, 1, 195, 54, 4]
abbrev dktX2_first_3 : List UInt8 := dkwX2_first_3 ++ dktX2_first_4
def dkwX2_first_2 : List UInt8 := [21, 5, 62, 3, 54, 6, 21, 6, 42, 180, 1, 186, 162, 0, 28, 42, 180, 0, 58, 21, 6, 42]
abbrev dktX2_first_2 : List UInt8 := dkwX2_first_2 ++ dktX2_first_3
def dkwX2_first_1 : List UInt8 := [153, 0, 73, 42, 182, 1, 192, 54, 5, 21, 5, 155, 0, 53, 29, 155, 0, 9, 21, 5, 29, 162, 0, 43]
abbrev dktX2_first_1 : List UInt8 := dkwX2_first_1 ++ dktX2_first_2
def dkwX2_first_0 : List UInt8 := [42, 27, 16, 7, 182, 1, 189, 153, 0, 8, 28, 2, 162, 0, 5, 2, 172, 2, 62, 4, 54, 4, 21, 4]
abbrev dktX2_first_0 : List UInt8 := dkwX2_first_0 ++ dktX2_first_1
theorem dksX2_first_0 : cX2_first.data.toList.drop 0 = dktX2_first_0 := by decide +kernel
theorem dksX2_first_1 : cX2_first.data.toList.drop 24 = dktX2_first_1 := dk_seg dksX2_first_0 24 rfl rfl
theorem dksX2_first_2 : cX2_first.data.toList.drop 48 = dktX2_first_2 := dk_seg dksX2_first_1 24 rfl rfl
theorem dksX2_first_3 : cX2_first.data.toList.drop 70 = dktX2_first_3 := dk_seg dksX2_first_2 22 rfl rfl
theorem dksX2_first_4 : cX2_first.data.toList.drop 94 = dktX2_first_4 := dk_seg dksX2_first_3 24 rfl rfl
theorem dksX2_first_5 : cX2_first.data.toList.drop 117 = dktX2_first_5 := dk_seg dksX2_first_4 23 rfl rfl
theorem dX2_first_0 : decode cX2_first 0 = .ok (.aload_n 0, 1) := dk_42 (dk_at dksX2_first_0 0 rfl rfl)
theorem dX2_first_1 : decode cX2_first 1 = .ok (.iload_n 1, 1) := dk_27 (dk_at dksX2_first_0 1 rfl rfl)
theorem dX2_first_2 : decode cX2_first 2 = .ok (.bipush 7, 2) := dk_16 7 (dk_at dksX2_first_0 2 rfl rfl)
theorem dX2_first_4 : decode cX2_first 4 = .ok (.invokevirtual 445, 3) := dk_182 1 189 (dk_at dksX2_first_0 4 rfl rfl)
theorem dX2_first_7 : decode cX2_first 7 = .ok (.ifCond .eq 8, 3) := dk_153 0 8 (dk_at dksX2_first_0 7 rfl rfl)
theorem dX2_first_10 : decode cX2_first 10 = .ok (.iload_n 2, 1) := dk_28 (dk_at dksX2_first_0 10 rfl rfl)
theorem dX2_first_11 : decode cX2_first 11 = .ok (.iconst (-1), 1) := dk_2 (dk_at dksX2_first_0 11 rfl rfl)
theorem dX2_first_12 : decode cX2_first 12 = .ok (.if_icmp .ge 5, 3) := dk_162 0 5 (dk_at dksX2_first_0 12 rfl rfl)
theorem dX2_first_15 : decode cX2_first 15 = .ok (.iconst (-1), 1) := dk_2 (dk_at dksX2_first_0 15 rfl rfl)
theorem dX2_first_16 : decode cX2_first 16 = .ok (.ireturn, 1) := dk_172 (dk_at dksX2_first_0 16 rfl rfl)
theorem dX2_first_17 : decode cX2_first 17 = .ok (.iconst (-1), 1) := dk_2 (dk_at dksX2_first_0 17 rfl rfl)
theorem dX2_first_18 : decode cX2_first 18 = .ok (.istore_n 3, 1) := dk_62 (dk_at dksX2_first_0 18 rfl rfl)
theorem dX2_first_19 : decode cX2_first 19 = .ok (.iconst 1, 1) := dk_4 (dk_at dksX2_first_0 19 rfl rfl)
theorem dX2_first_20 : decode cX2_first 20 = .ok (.istore 4, 2) := dk_54 4 (dk_at dksX2_first_0 20 rfl rfl)
theorem dX2_first_22 : decode cX2_first 22 = .ok (.iload 4, 2) := dk_21 4 (dk_at dksX2_first_0 22 rfl rfl)
theorem dX2_first_24 : decode cX2_first 24 = .ok (.ifCond .eq 73, 3) := dk_153 0 73 (dk_at dksX2_first_1 0 rfl rfl)
theorem dX2_first_27 : decode cX2_first 27 = .ok (.aload_n 0, 1) := dk_42 (dk_at dksX2_first_1 3 rfl rfl)
theorem dX2_first_28 : decode cX2_first 28 = .ok (.invokevirtual 448, 3) := dk_182 1 192 (dk_at dksX2_first_1 4 rfl rfl)
theorem dX2_first_31 : decode cX2_first 31 = .ok (.istore 5, 2) := dk_54 5 (dk_at dksX2_first_1 7 rfl rfl)
theorem dX2_first_33 : decode cX2_first 33 = .ok (.iload 5, 2) := dk_21 5 (dk_at dksX2_first_1 9 rfl rfl)
theorem dX2_first_35 : decode cX2_first 35 = .ok (.ifCond .lt 53, 3) := dk_155 0 53 (dk_at dksX2_first_1 11 rfl rfl)
theorem dX2_first_38 : decode cX2_first 38 = .ok (.iload_n 3, 1) := dk_29 (dk_at dksX2_first_1 14 rfl rfl)
theorem dX2_first_39 : decode cX2_first 39 = .ok (.ifCond .lt 9, 3) := dk_155 0 9 (dk_at dksX2_first_1 15 rfl rfl)
theorem dX2_first_42 : decode cX2_first 42 = .ok (.iload 5, 2) := dk_21 5 (dk_at dksX2_first_1 18 rfl rfl)
theorem dX2_first_44 : decode cX2_first 44 = .ok (.iload_n 3, 1) := dk_29 (dk_at dksX2_first_1 20 rfl rfl)
theorem dX2_first_45 : decode cX2_first 45 = .ok (.if_icmp .ge 43, 3) := dk_162 0 43 (dk_at dksX2_first_1 21 rfl rfl)
theorem dX2_first_48 : decode cX2_first 48 = .ok (.iload 5, 2) := dk_21 5 (dk_at dksX2_first_2 0 rfl rfl)
theorem dX2_first_50 : decode cX2_first 50 = .ok (.istore_n 3, 1) := dk_62 (dk_at dksX2_first_2 2 rfl rfl)
theorem dX2_first_51 : decode cX2_first 51 = .ok (.iconst 0, 1) := dk_3 (dk_at dksX2_first_2 3 rfl rfl)
theorem dX2_first_52 : decode cX2_first 52 = .ok (.istore 6, 2) := dk_54 6 (dk_at dksX2_first_2 4 rfl rfl)
theorem dX2_first_54 : decode cX2_first 54 = .ok (.iload 6, 2) := dk_21 6 (dk_at dksX2_first_2 6 rfl rfl)
theorem dX2_first_56 : decode cX2_first 56 = .ok (.aload_n 0, 1) := dk_42 (dk_at dksX2_first_2 8 rfl rfl)
theorem dX2_first_57 : decode cX2_first 57 = .ok (.getfield 442, 3) := dk_180 1 186 (dk_at dksX2_first_2 9 rfl rfl)
theorem dX2_first_60 : decode cX2_first 60 = .ok (.if_icmp .ge 28, 3) := dk_162 0 28 (dk_at dksX2_first_2 12 rfl rfl)
theorem dX2_first_63 : decode cX2_first 63 = .ok (.aload_n 0, 1) := dk_42 (dk_at dksX2_first_2 15 rfl rfl)
theorem dX2_first_64 : decode cX2_first 64 = .ok (.getfield 58, 3) := dk_180 0 58 (dk_at dksX2_first_2 16 rfl rfl)
theorem dX2_first_67 : decode cX2_first 67 = .ok (.iload 6, 2) := dk_21 6 (dk_at dksX2_first_2 19 rfl rfl)
theorem dX2_first_69 : decode cX2_first 69 = .ok (.aload_n 0, 1) := dk_42 (dk_at dksX2_first_2 21 rfl rfl)
theorem dX2_first_70 : decode cX2_first 70 = .ok (.getfield 49, 3) := dk_180 0 49 (dk_at dksX2_first_3 0 rfl rfl)
theorem dX2_first_73 : decode cX2_first 73 = .ok (.aload_n 0, 1) := dk_42 (dk_at dksX2_first_3 3 rfl rfl)
theorem dX2_first_74 : decode cX2_first 74 = .ok (.getfield 55, 3) := dk_180 0 55 (dk_at dksX2_first_3 4 rfl rfl)
theorem dX2_first_77 : decode cX2_first 77 = .ok (.iload 6, 2) := dk_21 6 (dk_at dksX2_first_3 7 rfl rfl)
theorem dX2_first_79 : decode cX2_first 79 = .ok (.iaload, 1) := dk_46 (dk_at dksX2_first_3 9 rfl rfl)
theorem dX2_first_80 : decode cX2_first 80 = .ok (.iaload, 1) := dk_46 (dk_at dksX2_first_3 10 rfl rfl)
theorem dX2_first_81 : decode cX2_first 81 = .ok (.iastore, 1) := dk_79 (dk_at dksX2_first_3 11 rfl rfl)
theorem dX2_first_82 : decode cX2_first 82 = .ok (.iinc 6 1, 3) := dk_132 6 1 (dk_at dksX2_first_3 12 rfl rfl)
theorem dX2_first_85 : decode cX2_first 85 = .ok (.goto (-31), 3) := dk_167 255 225 (dk_at dksX2_first_3 15 rfl rfl)
theorem dX2_first_88 : decode cX2_first 88 = .ok (.aload_n 0, 1) := dk_42 (dk_at dksX2_first_3 18 rfl rfl)
theorem dX2_first_89 : decode cX2_first 89 = .ok (.invokevirtual 451, 3) := dk_182 1 195 (dk_at dksX2_first_3 19 rfl rfl)
theorem dX2_first_92 : decode cX2_first 92 = .ok (.istore 4, 2) := dk_54 4 (dk_at dksX2_first_3 22 rfl rfl)
theorem dX2_first_94 : decode cX2_first 94 = .ok (.goto (-72), 3) := dk_167 255 184 (dk_at dksX2_first_4 0 rfl rfl)
theorem dX2_first_97 : decode cX2_first 97 = .ok (.iload_n 3, 1) := dk_29 (dk_at dksX2_first_4 3 rfl rfl)
theorem dX2_first_98 : decode cX2_first 98 = .ok (.ifCond .ge 5, 3) := dk_156 0 5 (dk_at dksX2_first_4 4 rfl rfl)
theorem dX2_first_101 : decode cX2_first 101 = .ok (.iconst (-1), 1) := dk_2 (dk_at dksX2_first_4 7 rfl rfl)
theorem dX2_first_102 : decode cX2_first 102 = .ok (.ireturn, 1) := dk_172 (dk_at dksX2_first_4 8 rfl rfl)
theorem dX2_first_103 : decode cX2_first 103 = .ok (.iload_n 2, 1) := dk_28 (dk_at dksX2_first_4 9 rfl rfl)
theorem dX2_first_104 : decode cX2_first 104 = .ok (.iconst (-1), 1) := dk_2 (dk_at dksX2_first_4 10 rfl rfl)
theorem dX2_first_105 : decode cX2_first 105 = .ok (.if_icmp .ne 7, 3) := dk_160 0 7 (dk_at dksX2_first_4 11 rfl rfl)
theorem dX2_first_108 : decode cX2_first 108 = .ok (.iload_n 3, 1) := dk_29 (dk_at dksX2_first_4 14 rfl rfl)
theorem dX2_first_109 : decode cX2_first 109 = .ok (.goto 21, 3) := dk_167 0 21 (dk_at dksX2_first_4 15 rfl rfl)
theorem dX2_first_112 : decode cX2_first 112 = .ok (.iload_n 2, 1) := dk_28 (dk_at dksX2_first_4 18 rfl rfl)
theorem dX2_first_113 : decode cX2_first 113 = .ok (.aload_n 0, 1) := dk_42 (dk_at dksX2_first_4 19 rfl rfl)
theorem dX2_first_114 : decode cX2_first 114 = .ok (.getfield 442, 3) := dk_180 1 186 (dk_at dksX2_first_4 20 rfl rfl)
theorem dX2_first_117 : decode cX2_first 117 = .ok (.if_icmp .ge 12, 3) := dk_162 0 12 (dk_at dksX2_first_5 0 rfl rfl)
theorem dX2_first_120 : decode cX2_first 120 = .ok (.aload_n 0, 1) := dk_42 (dk_at dksX2_first_5 3 rfl rfl)
theorem dX2_first_121 : decode cX2_first 121 = .ok (.getfield 58, 3) := dk_180 0 58 (dk_at dksX2_first_5 4 rfl rfl)
theorem dX2_first_124 : decode cX2_first 124 = .ok (.iload_n 2, 1) := dk_28 (dk_at dksX2_first_5 7 rfl rfl)
theorem dX2_first_125 : decode cX2_first 125 = .ok (.iaload, 1) := dk_46 (dk_at dksX2_first_5 8 rfl rfl)
theorem dX2_first_126 : decode cX2_first 126 = .ok (.goto 4, 3) := dk_167 0 4 (dk_at dksX2_first_5 9 rfl rfl)
theorem dX2_first_129 : decode cX2_first 129 = .ok (.iconst (-1), 1) := dk_2 (dk_at dksX2_first_5 12 rfl rfl)
theorem dX2_first_130 : decode cX2_first 130 = .ok (.ireturn, 1) := dk_172 (dk_at dksX2_first_5 13 rfl rfl)
abbrev cX2_layMembers : ByteArray := prog_19_method_123_code
def yX2_layMembers : MethodName := ⟨RX2, "layMembers", "(II)Z"⟩
def dkwX2_layMembers_4 : List UInt8 := [180, 1, 186, 4, 96, 181, 1, 186, 132, 3, 1, 167, 255, 185, 4, 172]
abbrev dktX2_layMembers_4 : List UInt8 := dkwX2_layMembers_4 ++ []
def dkwX2_layMembers_3 : List UInt8 := [180, 1, 186, 42, 29, 182, 1, 114, 79, 42, 180, 0, 55, 42, 180, 1, 186, 42, 180, 1, 186, 79, 42, 89]
abbrev dktX2_layMembers_3 : List UInt8 := dkwX2_layMembers_3 ++ dktX2_layMembers_4
def dkwX2_layMembers_2 : List UInt8 := [184, 0, 241, 154, 0, 6, 167, 0, 50, 42, 180, 0, 49, 42, 180, 1, 186, 29, 79, 42, 180, 0, 52, 42]
abbrev dktX2_layMembers_2 : List UInt8 := dkwX2_layMembers_2 ++ dktX2_layMembers_3
def dkwX2_layMembers_1 : List UInt8 := [164, 0, 5, 3, 172, 42, 3, 181, 1, 186, 3, 62, 29, 42, 180, 0, 7, 3, 46, 162, 0, 67, 27, 29]
abbrev dktX2_layMembers_1 : List UInt8 := dkwX2_layMembers_1 ++ dktX2_layMembers_2
def dkwX2_layMembers_0 : List UInt8 := [27, 4, 4, 42, 180, 0, 7, 3, 46, 120, 4, 100, 184, 0, 71, 153, 0, 11, 27, 184, 1, 183, 28]
abbrev dktX2_layMembers_0 : List UInt8 := dkwX2_layMembers_0 ++ dktX2_layMembers_1
theorem dksX2_layMembers_0 : cX2_layMembers.data.toList.drop 0 = dktX2_layMembers_0 := by decide +kernel
theorem dksX2_layMembers_1 : cX2_layMembers.data.toList.drop 23 = dktX2_layMembers_1 := dk_seg dksX2_layMembers_0 23 rfl rfl
theorem dksX2_layMembers_2 : cX2_layMembers.data.toList.drop 47 = dktX2_layMembers_2 := dk_seg dksX2_layMembers_1 24 rfl rfl
theorem dksX2_layMembers_3 : cX2_layMembers.data.toList.drop 71 = dktX2_layMembers_3 := dk_seg dksX2_layMembers_2 24 rfl rfl
theorem dksX2_layMembers_4 : cX2_layMembers.data.toList.drop 95 = dktX2_layMembers_4 := dk_seg dksX2_layMembers_3 24 rfl rfl
theorem dX2_layMembers_0 : decode cX2_layMembers 0 = .ok (.iload_n 1, 1) := dk_27 (dk_at dksX2_layMembers_0 0 rfl rfl)
theorem dX2_layMembers_1 : decode cX2_layMembers 1 = .ok (.iconst 1, 1) := dk_4 (dk_at dksX2_layMembers_0 1 rfl rfl)
theorem dX2_layMembers_2 : decode cX2_layMembers 2 = .ok (.iconst 1, 1) := dk_4 (dk_at dksX2_layMembers_0 2 rfl rfl)
theorem dX2_layMembers_3 : decode cX2_layMembers 3 = .ok (.aload_n 0, 1) := dk_42 (dk_at dksX2_layMembers_0 3 rfl rfl)
theorem dX2_layMembers_4 : decode cX2_layMembers 4 = .ok (.getfield 7, 3) := dk_180 0 7 (dk_at dksX2_layMembers_0 4 rfl rfl)
theorem dX2_layMembers_7 : decode cX2_layMembers 7 = .ok (.iconst 0, 1) := dk_3 (dk_at dksX2_layMembers_0 7 rfl rfl)
theorem dX2_layMembers_8 : decode cX2_layMembers 8 = .ok (.iaload, 1) := dk_46 (dk_at dksX2_layMembers_0 8 rfl rfl)
theorem dX2_layMembers_9 : decode cX2_layMembers 9 = .ok (.ishl, 1) := dk_120 (dk_at dksX2_layMembers_0 9 rfl rfl)
theorem dX2_layMembers_10 : decode cX2_layMembers 10 = .ok (.iconst 1, 1) := dk_4 (dk_at dksX2_layMembers_0 10 rfl rfl)
theorem dX2_layMembers_11 : decode cX2_layMembers 11 = .ok (.isub, 1) := dk_100 (dk_at dksX2_layMembers_0 11 rfl rfl)
theorem dX2_layMembers_12 : decode cX2_layMembers 12 = .ok (.invokestatic 71, 3) := dk_184 0 71 (dk_at dksX2_layMembers_0 12 rfl rfl)
theorem dX2_layMembers_15 : decode cX2_layMembers 15 = .ok (.ifCond .eq 11, 3) := dk_153 0 11 (dk_at dksX2_layMembers_0 15 rfl rfl)
theorem dX2_layMembers_18 : decode cX2_layMembers 18 = .ok (.iload_n 1, 1) := dk_27 (dk_at dksX2_layMembers_0 18 rfl rfl)
theorem dX2_layMembers_19 : decode cX2_layMembers 19 = .ok (.invokestatic 439, 3) := dk_184 1 183 (dk_at dksX2_layMembers_0 19 rfl rfl)
theorem dX2_layMembers_22 : decode cX2_layMembers 22 = .ok (.iload_n 2, 1) := dk_28 (dk_at dksX2_layMembers_0 22 rfl rfl)
theorem dX2_layMembers_23 : decode cX2_layMembers 23 = .ok (.if_icmp .le 5, 3) := dk_164 0 5 (dk_at dksX2_layMembers_1 0 rfl rfl)
theorem dX2_layMembers_26 : decode cX2_layMembers 26 = .ok (.iconst 0, 1) := dk_3 (dk_at dksX2_layMembers_1 3 rfl rfl)
theorem dX2_layMembers_27 : decode cX2_layMembers 27 = .ok (.ireturn, 1) := dk_172 (dk_at dksX2_layMembers_1 4 rfl rfl)
theorem dX2_layMembers_28 : decode cX2_layMembers 28 = .ok (.aload_n 0, 1) := dk_42 (dk_at dksX2_layMembers_1 5 rfl rfl)
theorem dX2_layMembers_29 : decode cX2_layMembers 29 = .ok (.iconst 0, 1) := dk_3 (dk_at dksX2_layMembers_1 6 rfl rfl)
theorem dX2_layMembers_30 : decode cX2_layMembers 30 = .ok (.putfield 442, 3) := dk_181 1 186 (dk_at dksX2_layMembers_1 7 rfl rfl)
theorem dX2_layMembers_33 : decode cX2_layMembers 33 = .ok (.iconst 0, 1) := dk_3 (dk_at dksX2_layMembers_1 10 rfl rfl)
theorem dX2_layMembers_34 : decode cX2_layMembers 34 = .ok (.istore_n 3, 1) := dk_62 (dk_at dksX2_layMembers_1 11 rfl rfl)
theorem dX2_layMembers_35 : decode cX2_layMembers 35 = .ok (.iload_n 3, 1) := dk_29 (dk_at dksX2_layMembers_1 12 rfl rfl)
theorem dX2_layMembers_36 : decode cX2_layMembers 36 = .ok (.aload_n 0, 1) := dk_42 (dk_at dksX2_layMembers_1 13 rfl rfl)
theorem dX2_layMembers_37 : decode cX2_layMembers 37 = .ok (.getfield 7, 3) := dk_180 0 7 (dk_at dksX2_layMembers_1 14 rfl rfl)
theorem dX2_layMembers_40 : decode cX2_layMembers 40 = .ok (.iconst 0, 1) := dk_3 (dk_at dksX2_layMembers_1 17 rfl rfl)
theorem dX2_layMembers_41 : decode cX2_layMembers 41 = .ok (.iaload, 1) := dk_46 (dk_at dksX2_layMembers_1 18 rfl rfl)
theorem dX2_layMembers_42 : decode cX2_layMembers 42 = .ok (.if_icmp .ge 67, 3) := dk_162 0 67 (dk_at dksX2_layMembers_1 19 rfl rfl)
theorem dX2_layMembers_45 : decode cX2_layMembers 45 = .ok (.iload_n 1, 1) := dk_27 (dk_at dksX2_layMembers_1 22 rfl rfl)
theorem dX2_layMembers_46 : decode cX2_layMembers 46 = .ok (.iload_n 3, 1) := dk_29 (dk_at dksX2_layMembers_1 23 rfl rfl)
theorem dX2_layMembers_47 : decode cX2_layMembers 47 = .ok (.invokestatic 241, 3) := dk_184 0 241 (dk_at dksX2_layMembers_2 0 rfl rfl)
theorem dX2_layMembers_50 : decode cX2_layMembers 50 = .ok (.ifCond .ne 6, 3) := dk_154 0 6 (dk_at dksX2_layMembers_2 3 rfl rfl)
theorem dX2_layMembers_53 : decode cX2_layMembers 53 = .ok (.goto 50, 3) := dk_167 0 50 (dk_at dksX2_layMembers_2 6 rfl rfl)
theorem dX2_layMembers_56 : decode cX2_layMembers 56 = .ok (.aload_n 0, 1) := dk_42 (dk_at dksX2_layMembers_2 9 rfl rfl)
theorem dX2_layMembers_57 : decode cX2_layMembers 57 = .ok (.getfield 49, 3) := dk_180 0 49 (dk_at dksX2_layMembers_2 10 rfl rfl)
theorem dX2_layMembers_60 : decode cX2_layMembers 60 = .ok (.aload_n 0, 1) := dk_42 (dk_at dksX2_layMembers_2 13 rfl rfl)
theorem dX2_layMembers_61 : decode cX2_layMembers 61 = .ok (.getfield 442, 3) := dk_180 1 186 (dk_at dksX2_layMembers_2 14 rfl rfl)
theorem dX2_layMembers_64 : decode cX2_layMembers 64 = .ok (.iload_n 3, 1) := dk_29 (dk_at dksX2_layMembers_2 17 rfl rfl)
theorem dX2_layMembers_65 : decode cX2_layMembers 65 = .ok (.iastore, 1) := dk_79 (dk_at dksX2_layMembers_2 18 rfl rfl)
theorem dX2_layMembers_66 : decode cX2_layMembers 66 = .ok (.aload_n 0, 1) := dk_42 (dk_at dksX2_layMembers_2 19 rfl rfl)
theorem dX2_layMembers_67 : decode cX2_layMembers 67 = .ok (.getfield 52, 3) := dk_180 0 52 (dk_at dksX2_layMembers_2 20 rfl rfl)
theorem dX2_layMembers_70 : decode cX2_layMembers 70 = .ok (.aload_n 0, 1) := dk_42 (dk_at dksX2_layMembers_2 23 rfl rfl)
theorem dX2_layMembers_71 : decode cX2_layMembers 71 = .ok (.getfield 442, 3) := dk_180 1 186 (dk_at dksX2_layMembers_3 0 rfl rfl)
theorem dX2_layMembers_74 : decode cX2_layMembers 74 = .ok (.aload_n 0, 1) := dk_42 (dk_at dksX2_layMembers_3 3 rfl rfl)
theorem dX2_layMembers_75 : decode cX2_layMembers 75 = .ok (.iload_n 3, 1) := dk_29 (dk_at dksX2_layMembers_3 4 rfl rfl)
theorem dX2_layMembers_76 : decode cX2_layMembers 76 = .ok (.invokevirtual 370, 3) := dk_182 1 114 (dk_at dksX2_layMembers_3 5 rfl rfl)
theorem dX2_layMembers_79 : decode cX2_layMembers 79 = .ok (.iastore, 1) := dk_79 (dk_at dksX2_layMembers_3 8 rfl rfl)
theorem dX2_layMembers_80 : decode cX2_layMembers 80 = .ok (.aload_n 0, 1) := dk_42 (dk_at dksX2_layMembers_3 9 rfl rfl)
theorem dX2_layMembers_81 : decode cX2_layMembers 81 = .ok (.getfield 55, 3) := dk_180 0 55 (dk_at dksX2_layMembers_3 10 rfl rfl)
theorem dX2_layMembers_84 : decode cX2_layMembers 84 = .ok (.aload_n 0, 1) := dk_42 (dk_at dksX2_layMembers_3 13 rfl rfl)
theorem dX2_layMembers_85 : decode cX2_layMembers 85 = .ok (.getfield 442, 3) := dk_180 1 186 (dk_at dksX2_layMembers_3 14 rfl rfl)
theorem dX2_layMembers_88 : decode cX2_layMembers 88 = .ok (.aload_n 0, 1) := dk_42 (dk_at dksX2_layMembers_3 17 rfl rfl)
theorem dX2_layMembers_89 : decode cX2_layMembers 89 = .ok (.getfield 442, 3) := dk_180 1 186 (dk_at dksX2_layMembers_3 18 rfl rfl)
theorem dX2_layMembers_92 : decode cX2_layMembers 92 = .ok (.iastore, 1) := dk_79 (dk_at dksX2_layMembers_3 21 rfl rfl)
theorem dX2_layMembers_93 : decode cX2_layMembers 93 = .ok (.aload_n 0, 1) := dk_42 (dk_at dksX2_layMembers_3 22 rfl rfl)
theorem dX2_layMembers_94 : decode cX2_layMembers 94 = .ok (.dup, 1) := dk_89 (dk_at dksX2_layMembers_3 23 rfl rfl)
theorem dX2_layMembers_95 : decode cX2_layMembers 95 = .ok (.getfield 442, 3) := dk_180 1 186 (dk_at dksX2_layMembers_4 0 rfl rfl)
theorem dX2_layMembers_98 : decode cX2_layMembers 98 = .ok (.iconst 1, 1) := dk_4 (dk_at dksX2_layMembers_4 3 rfl rfl)
theorem dX2_layMembers_99 : decode cX2_layMembers 99 = .ok (.iadd, 1) := dk_96 (dk_at dksX2_layMembers_4 4 rfl rfl)
theorem dX2_layMembers_100 : decode cX2_layMembers 100 = .ok (.putfield 442, 3) := dk_181 1 186 (dk_at dksX2_layMembers_4 5 rfl rfl)
theorem dX2_layMembers_103 : decode cX2_layMembers 103 = .ok (.iinc 3 1, 3) := dk_132 3 1 (dk_at dksX2_layMembers_4 8 rfl rfl)
theorem dX2_layMembers_106 : decode cX2_layMembers 106 = .ok (.goto (-71), 3) := dk_167 255 185 (dk_at dksX2_layMembers_4 11 rfl rfl)
theorem dX2_layMembers_109 : decode cX2_layMembers 109 = .ok (.iconst 1, 1) := dk_4 (dk_at dksX2_layMembers_4 14 rfl rfl)
theorem dX2_layMembers_110 : decode cX2_layMembers 110 = .ok (.ireturn, 1) := dk_172 (dk_at dksX2_layMembers_4 15 rfl rfl)
abbrev cX2_bits : ByteArray := prog_19_method_7_code
def yX2_bits : MethodName := ⟨RX2, "bits", "(I)I"⟩
def dkwX2_bits_1 : List UInt8 := [27, 172]
abbrev dktX2_bits_1 : List UInt8 := dkwX2_bits_1 ++ []
def dkwX2_bits_0 : List UInt8 := [3, 60, 3, 61, 28, 16, 8, 162, 0, 17, 27, 26, 28, 122, 4, 126, 96, 60, 132, 2, 1, 167, 255, 239]
abbrev dktX2_bits_0 : List UInt8 := dkwX2_bits_0 ++ dktX2_bits_1
theorem dksX2_bits_0 : cX2_bits.data.toList.drop 0 = dktX2_bits_0 := by decide +kernel
theorem dksX2_bits_1 : cX2_bits.data.toList.drop 24 = dktX2_bits_1 := dk_seg dksX2_bits_0 24 rfl rfl
theorem dX2_bits_0 : decode cX2_bits 0 = .ok (.iconst 0, 1) := dk_3 (dk_at dksX2_bits_0 0 rfl rfl)
theorem dX2_bits_1 : decode cX2_bits 1 = .ok (.istore_n 1, 1) := dk_60 (dk_at dksX2_bits_0 1 rfl rfl)
theorem dX2_bits_2 : decode cX2_bits 2 = .ok (.iconst 0, 1) := dk_3 (dk_at dksX2_bits_0 2 rfl rfl)
theorem dX2_bits_3 : decode cX2_bits 3 = .ok (.istore_n 2, 1) := dk_61 (dk_at dksX2_bits_0 3 rfl rfl)
theorem dX2_bits_4 : decode cX2_bits 4 = .ok (.iload_n 2, 1) := dk_28 (dk_at dksX2_bits_0 4 rfl rfl)
theorem dX2_bits_5 : decode cX2_bits 5 = .ok (.bipush 8, 2) := dk_16 8 (dk_at dksX2_bits_0 5 rfl rfl)
theorem dX2_bits_7 : decode cX2_bits 7 = .ok (.if_icmp .ge 17, 3) := dk_162 0 17 (dk_at dksX2_bits_0 7 rfl rfl)
theorem dX2_bits_10 : decode cX2_bits 10 = .ok (.iload_n 1, 1) := dk_27 (dk_at dksX2_bits_0 10 rfl rfl)
theorem dX2_bits_11 : decode cX2_bits 11 = .ok (.iload_n 0, 1) := dk_26 (dk_at dksX2_bits_0 11 rfl rfl)
theorem dX2_bits_12 : decode cX2_bits 12 = .ok (.iload_n 2, 1) := dk_28 (dk_at dksX2_bits_0 12 rfl rfl)
theorem dX2_bits_13 : decode cX2_bits 13 = .ok (.ishr, 1) := dk_122 (dk_at dksX2_bits_0 13 rfl rfl)
theorem dX2_bits_14 : decode cX2_bits 14 = .ok (.iconst 1, 1) := dk_4 (dk_at dksX2_bits_0 14 rfl rfl)
theorem dX2_bits_15 : decode cX2_bits 15 = .ok (.iand, 1) := dk_126 (dk_at dksX2_bits_0 15 rfl rfl)
theorem dX2_bits_16 : decode cX2_bits 16 = .ok (.iadd, 1) := dk_96 (dk_at dksX2_bits_0 16 rfl rfl)
theorem dX2_bits_17 : decode cX2_bits 17 = .ok (.istore_n 1, 1) := dk_60 (dk_at dksX2_bits_0 17 rfl rfl)
theorem dX2_bits_18 : decode cX2_bits 18 = .ok (.iinc 2 1, 3) := dk_132 2 1 (dk_at dksX2_bits_0 18 rfl rfl)
theorem dX2_bits_21 : decode cX2_bits 21 = .ok (.goto (-17), 3) := dk_167 255 239 (dk_at dksX2_bits_0 21 rfl rfl)
theorem dX2_bits_24 : decode cX2_bits 24 = .ok (.iload_n 1, 1) := dk_27 (dk_at dksX2_bits_1 0 rfl rfl)
theorem dX2_bits_25 : decode cX2_bits 25 = .ok (.ireturn, 1) := dk_172 (dk_at dksX2_bits_1 1 rfl rfl)
abbrev cX2_waited : ByteArray := prog_19_method_125_code
def yX2_waited : MethodName := ⟨RX2, "waited", "()I"⟩
def dkwX2_waited_3 : List UInt8 := [167, 255, 193, 28, 172]
abbrev dktX2_waited_3 : List UInt8 := dkwX2_waited_3 ++ []
def dkwX2_waited_2 : List UInt8 := [182, 1, 39, 164, 0, 5, 2, 172, 28, 42, 21, 4, 6, 182, 1, 39, 27, 104, 96, 61, 132, 3, 1]
abbrev dktX2_waited_2 : List UInt8 := dkwX2_waited_2 ++ dktX2_waited_3
def dkwX2_waited_1 : List UInt8 := [46, 54, 4, 27, 42, 180, 0, 52, 42, 180, 0, 55, 29, 46, 46, 96, 60, 27, 42, 21, 4, 5]
abbrev dktX2_waited_1 : List UInt8 := dkwX2_waited_1 ++ dktX2_waited_2
def dkwX2_waited_0 : List UInt8 := [3, 60, 3, 61, 3, 62, 29, 42, 180, 1, 186, 162, 0, 61, 42, 180, 0, 49, 42, 180, 0, 55, 29, 46]
abbrev dktX2_waited_0 : List UInt8 := dkwX2_waited_0 ++ dktX2_waited_1
theorem dksX2_waited_0 : cX2_waited.data.toList.drop 0 = dktX2_waited_0 := by decide +kernel
theorem dksX2_waited_1 : cX2_waited.data.toList.drop 24 = dktX2_waited_1 := dk_seg dksX2_waited_0 24 rfl rfl
theorem dksX2_waited_2 : cX2_waited.data.toList.drop 46 = dktX2_waited_2 := dk_seg dksX2_waited_1 22 rfl rfl
theorem dksX2_waited_3 : cX2_waited.data.toList.drop 69 = dktX2_waited_3 := dk_seg dksX2_waited_2 23 rfl rfl
theorem dX2_waited_0 : decode cX2_waited 0 = .ok (.iconst 0, 1) := dk_3 (dk_at dksX2_waited_0 0 rfl rfl)
theorem dX2_waited_1 : decode cX2_waited 1 = .ok (.istore_n 1, 1) := dk_60 (dk_at dksX2_waited_0 1 rfl rfl)
theorem dX2_waited_2 : decode cX2_waited 2 = .ok (.iconst 0, 1) := dk_3 (dk_at dksX2_waited_0 2 rfl rfl)
theorem dX2_waited_3 : decode cX2_waited 3 = .ok (.istore_n 2, 1) := dk_61 (dk_at dksX2_waited_0 3 rfl rfl)
theorem dX2_waited_4 : decode cX2_waited 4 = .ok (.iconst 0, 1) := dk_3 (dk_at dksX2_waited_0 4 rfl rfl)
theorem dX2_waited_5 : decode cX2_waited 5 = .ok (.istore_n 3, 1) := dk_62 (dk_at dksX2_waited_0 5 rfl rfl)
theorem dX2_waited_6 : decode cX2_waited 6 = .ok (.iload_n 3, 1) := dk_29 (dk_at dksX2_waited_0 6 rfl rfl)
theorem dX2_waited_7 : decode cX2_waited 7 = .ok (.aload_n 0, 1) := dk_42 (dk_at dksX2_waited_0 7 rfl rfl)
theorem dX2_waited_8 : decode cX2_waited 8 = .ok (.getfield 442, 3) := dk_180 1 186 (dk_at dksX2_waited_0 8 rfl rfl)
theorem dX2_waited_11 : decode cX2_waited 11 = .ok (.if_icmp .ge 61, 3) := dk_162 0 61 (dk_at dksX2_waited_0 11 rfl rfl)
theorem dX2_waited_14 : decode cX2_waited 14 = .ok (.aload_n 0, 1) := dk_42 (dk_at dksX2_waited_0 14 rfl rfl)
theorem dX2_waited_15 : decode cX2_waited 15 = .ok (.getfield 49, 3) := dk_180 0 49 (dk_at dksX2_waited_0 15 rfl rfl)
theorem dX2_waited_18 : decode cX2_waited 18 = .ok (.aload_n 0, 1) := dk_42 (dk_at dksX2_waited_0 18 rfl rfl)
theorem dX2_waited_19 : decode cX2_waited 19 = .ok (.getfield 55, 3) := dk_180 0 55 (dk_at dksX2_waited_0 19 rfl rfl)
theorem dX2_waited_22 : decode cX2_waited 22 = .ok (.iload_n 3, 1) := dk_29 (dk_at dksX2_waited_0 22 rfl rfl)
theorem dX2_waited_23 : decode cX2_waited 23 = .ok (.iaload, 1) := dk_46 (dk_at dksX2_waited_0 23 rfl rfl)
theorem dX2_waited_24 : decode cX2_waited 24 = .ok (.iaload, 1) := dk_46 (dk_at dksX2_waited_1 0 rfl rfl)
theorem dX2_waited_25 : decode cX2_waited 25 = .ok (.istore 4, 2) := dk_54 4 (dk_at dksX2_waited_1 1 rfl rfl)
theorem dX2_waited_27 : decode cX2_waited 27 = .ok (.iload_n 1, 1) := dk_27 (dk_at dksX2_waited_1 3 rfl rfl)
theorem dX2_waited_28 : decode cX2_waited 28 = .ok (.aload_n 0, 1) := dk_42 (dk_at dksX2_waited_1 4 rfl rfl)
theorem dX2_waited_29 : decode cX2_waited 29 = .ok (.getfield 52, 3) := dk_180 0 52 (dk_at dksX2_waited_1 5 rfl rfl)
theorem dX2_waited_32 : decode cX2_waited 32 = .ok (.aload_n 0, 1) := dk_42 (dk_at dksX2_waited_1 8 rfl rfl)
theorem dX2_waited_33 : decode cX2_waited 33 = .ok (.getfield 55, 3) := dk_180 0 55 (dk_at dksX2_waited_1 9 rfl rfl)
theorem dX2_waited_36 : decode cX2_waited 36 = .ok (.iload_n 3, 1) := dk_29 (dk_at dksX2_waited_1 12 rfl rfl)
theorem dX2_waited_37 : decode cX2_waited 37 = .ok (.iaload, 1) := dk_46 (dk_at dksX2_waited_1 13 rfl rfl)
theorem dX2_waited_38 : decode cX2_waited 38 = .ok (.iaload, 1) := dk_46 (dk_at dksX2_waited_1 14 rfl rfl)
theorem dX2_waited_39 : decode cX2_waited 39 = .ok (.iadd, 1) := dk_96 (dk_at dksX2_waited_1 15 rfl rfl)
theorem dX2_waited_40 : decode cX2_waited 40 = .ok (.istore_n 1, 1) := dk_60 (dk_at dksX2_waited_1 16 rfl rfl)
theorem dX2_waited_41 : decode cX2_waited 41 = .ok (.iload_n 1, 1) := dk_27 (dk_at dksX2_waited_1 17 rfl rfl)
theorem dX2_waited_42 : decode cX2_waited 42 = .ok (.aload_n 0, 1) := dk_42 (dk_at dksX2_waited_1 18 rfl rfl)
theorem dX2_waited_43 : decode cX2_waited 43 = .ok (.iload 4, 2) := dk_21 4 (dk_at dksX2_waited_1 19 rfl rfl)
theorem dX2_waited_45 : decode cX2_waited 45 = .ok (.iconst 2, 1) := dk_5 (dk_at dksX2_waited_1 21 rfl rfl)
theorem dX2_waited_46 : decode cX2_waited 46 = .ok (.invokevirtual 295, 3) := dk_182 1 39 (dk_at dksX2_waited_2 0 rfl rfl)
theorem dX2_waited_49 : decode cX2_waited 49 = .ok (.if_icmp .le 5, 3) := dk_164 0 5 (dk_at dksX2_waited_2 3 rfl rfl)
theorem dX2_waited_52 : decode cX2_waited 52 = .ok (.iconst (-1), 1) := dk_2 (dk_at dksX2_waited_2 6 rfl rfl)
theorem dX2_waited_53 : decode cX2_waited 53 = .ok (.ireturn, 1) := dk_172 (dk_at dksX2_waited_2 7 rfl rfl)
theorem dX2_waited_54 : decode cX2_waited 54 = .ok (.iload_n 2, 1) := dk_28 (dk_at dksX2_waited_2 8 rfl rfl)
theorem dX2_waited_55 : decode cX2_waited 55 = .ok (.aload_n 0, 1) := dk_42 (dk_at dksX2_waited_2 9 rfl rfl)
theorem dX2_waited_56 : decode cX2_waited 56 = .ok (.iload 4, 2) := dk_21 4 (dk_at dksX2_waited_2 10 rfl rfl)
theorem dX2_waited_58 : decode cX2_waited 58 = .ok (.iconst 3, 1) := dk_6 (dk_at dksX2_waited_2 12 rfl rfl)
theorem dX2_waited_59 : decode cX2_waited 59 = .ok (.invokevirtual 295, 3) := dk_182 1 39 (dk_at dksX2_waited_2 13 rfl rfl)
theorem dX2_waited_62 : decode cX2_waited 62 = .ok (.iload_n 1, 1) := dk_27 (dk_at dksX2_waited_2 16 rfl rfl)
theorem dX2_waited_63 : decode cX2_waited 63 = .ok (.imul, 1) := dk_104 (dk_at dksX2_waited_2 17 rfl rfl)
theorem dX2_waited_64 : decode cX2_waited 64 = .ok (.iadd, 1) := dk_96 (dk_at dksX2_waited_2 18 rfl rfl)
theorem dX2_waited_65 : decode cX2_waited 65 = .ok (.istore_n 2, 1) := dk_61 (dk_at dksX2_waited_2 19 rfl rfl)
theorem dX2_waited_66 : decode cX2_waited 66 = .ok (.iinc 3 1, 3) := dk_132 3 1 (dk_at dksX2_waited_2 20 rfl rfl)
theorem dX2_waited_69 : decode cX2_waited 69 = .ok (.goto (-63), 3) := dk_167 255 193 (dk_at dksX2_waited_3 0 rfl rfl)
theorem dX2_waited_72 : decode cX2_waited 72 = .ok (.iload_n 2, 1) := dk_28 (dk_at dksX2_waited_3 3 rfl rfl)
theorem dX2_waited_73 : decode cX2_waited 73 = .ok (.ireturn, 1) := dk_172 (dk_at dksX2_waited_3 4 rfl rfl)
abbrev cX2_nextRow : ByteArray := prog_19_method_124_code
def yX2_nextRow : MethodName := ⟨RX2, "nextRow", "()Z"⟩
def dkwX2_nextRow_6 : List UInt8 := [132, 4, 1, 132, 5, 255, 167, 255, 213, 4, 172]
abbrev dktX2_nextRow_6 : List UInt8 := dkwX2_nextRow_6 ++ []
def dkwX2_nextRow_5 : List UInt8 := [46, 62, 42, 180, 0, 55, 21, 4, 42, 180, 0, 55, 21, 5, 46, 79, 42, 180, 0, 55, 21, 5, 29, 79]
abbrev dktX2_nextRow_5 : List UInt8 := dkwX2_nextRow_5 ++ dktX2_nextRow_6
def dkwX2_nextRow_4 : List UInt8 := [96, 54, 4, 42, 180, 1, 186, 4, 100, 54, 5, 21, 4, 21, 5, 162, 0, 42, 42, 180, 0, 55, 21, 4]
abbrev dktX2_nextRow_4 : List UInt8 := dkwX2_nextRow_4 ++ dktX2_nextRow_5
def dkwX2_nextRow_3 : List UInt8 := [27, 46, 62, 42, 180, 0, 55, 27, 42, 180, 0, 55, 28, 46, 79, 42, 180, 0, 55, 28, 29, 79, 27, 4]
abbrev dktX2_nextRow_3 : List UInt8 := dkwX2_nextRow_3 ++ dktX2_nextRow_4
def dkwX2_nextRow_2 : List UInt8 := [180, 0, 55, 28, 46, 42, 180, 0, 55, 27, 46, 162, 0, 9, 132, 2, 255, 167, 255, 238, 42, 180, 0, 55]
abbrev dktX2_nextRow_2 : List UInt8 := dkwX2_nextRow_2 ++ dktX2_nextRow_3
def dkwX2_nextRow_1 : List UInt8 := [46, 164, 0, 9, 132, 1, 255, 167, 255, 232, 27, 156, 0, 5, 3, 172, 42, 180, 1, 186, 4, 100, 61, 42]
abbrev dktX2_nextRow_1 : List UInt8 := dkwX2_nextRow_1 ++ dktX2_nextRow_2
def dkwX2_nextRow_0 : List UInt8 := [42, 180, 1, 186, 5, 100, 60, 27, 155, 0, 26, 42, 180, 0, 55, 27, 46, 42, 180, 0, 55, 27, 4, 96]
abbrev dktX2_nextRow_0 : List UInt8 := dkwX2_nextRow_0 ++ dktX2_nextRow_1
theorem dksX2_nextRow_0 : cX2_nextRow.data.toList.drop 0 = dktX2_nextRow_0 := by decide +kernel
theorem dksX2_nextRow_1 : cX2_nextRow.data.toList.drop 24 = dktX2_nextRow_1 := dk_seg dksX2_nextRow_0 24 rfl rfl
theorem dksX2_nextRow_2 : cX2_nextRow.data.toList.drop 48 = dktX2_nextRow_2 := dk_seg dksX2_nextRow_1 24 rfl rfl
theorem dksX2_nextRow_3 : cX2_nextRow.data.toList.drop 72 = dktX2_nextRow_3 := dk_seg dksX2_nextRow_2 24 rfl rfl
theorem dksX2_nextRow_4 : cX2_nextRow.data.toList.drop 96 = dktX2_nextRow_4 := dk_seg dksX2_nextRow_3 24 rfl rfl
theorem dksX2_nextRow_5 : cX2_nextRow.data.toList.drop 120 = dktX2_nextRow_5 := dk_seg dksX2_nextRow_4 24 rfl rfl
theorem dksX2_nextRow_6 : cX2_nextRow.data.toList.drop 144 = dktX2_nextRow_6 := dk_seg dksX2_nextRow_5 24 rfl rfl
theorem dX2_nextRow_0 : decode cX2_nextRow 0 = .ok (.aload_n 0, 1) := dk_42 (dk_at dksX2_nextRow_0 0 rfl rfl)
theorem dX2_nextRow_1 : decode cX2_nextRow 1 = .ok (.getfield 442, 3) := dk_180 1 186 (dk_at dksX2_nextRow_0 1 rfl rfl)
theorem dX2_nextRow_4 : decode cX2_nextRow 4 = .ok (.iconst 2, 1) := dk_5 (dk_at dksX2_nextRow_0 4 rfl rfl)
theorem dX2_nextRow_5 : decode cX2_nextRow 5 = .ok (.isub, 1) := dk_100 (dk_at dksX2_nextRow_0 5 rfl rfl)
theorem dX2_nextRow_6 : decode cX2_nextRow 6 = .ok (.istore_n 1, 1) := dk_60 (dk_at dksX2_nextRow_0 6 rfl rfl)
theorem dX2_nextRow_7 : decode cX2_nextRow 7 = .ok (.iload_n 1, 1) := dk_27 (dk_at dksX2_nextRow_0 7 rfl rfl)
theorem dX2_nextRow_8 : decode cX2_nextRow 8 = .ok (.ifCond .lt 26, 3) := dk_155 0 26 (dk_at dksX2_nextRow_0 8 rfl rfl)
theorem dX2_nextRow_11 : decode cX2_nextRow 11 = .ok (.aload_n 0, 1) := dk_42 (dk_at dksX2_nextRow_0 11 rfl rfl)
theorem dX2_nextRow_12 : decode cX2_nextRow 12 = .ok (.getfield 55, 3) := dk_180 0 55 (dk_at dksX2_nextRow_0 12 rfl rfl)
theorem dX2_nextRow_15 : decode cX2_nextRow 15 = .ok (.iload_n 1, 1) := dk_27 (dk_at dksX2_nextRow_0 15 rfl rfl)
theorem dX2_nextRow_16 : decode cX2_nextRow 16 = .ok (.iaload, 1) := dk_46 (dk_at dksX2_nextRow_0 16 rfl rfl)
theorem dX2_nextRow_17 : decode cX2_nextRow 17 = .ok (.aload_n 0, 1) := dk_42 (dk_at dksX2_nextRow_0 17 rfl rfl)
theorem dX2_nextRow_18 : decode cX2_nextRow 18 = .ok (.getfield 55, 3) := dk_180 0 55 (dk_at dksX2_nextRow_0 18 rfl rfl)
theorem dX2_nextRow_21 : decode cX2_nextRow 21 = .ok (.iload_n 1, 1) := dk_27 (dk_at dksX2_nextRow_0 21 rfl rfl)
theorem dX2_nextRow_22 : decode cX2_nextRow 22 = .ok (.iconst 1, 1) := dk_4 (dk_at dksX2_nextRow_0 22 rfl rfl)
theorem dX2_nextRow_23 : decode cX2_nextRow 23 = .ok (.iadd, 1) := dk_96 (dk_at dksX2_nextRow_0 23 rfl rfl)
theorem dX2_nextRow_24 : decode cX2_nextRow 24 = .ok (.iaload, 1) := dk_46 (dk_at dksX2_nextRow_1 0 rfl rfl)
theorem dX2_nextRow_25 : decode cX2_nextRow 25 = .ok (.if_icmp .le 9, 3) := dk_164 0 9 (dk_at dksX2_nextRow_1 1 rfl rfl)
theorem dX2_nextRow_28 : decode cX2_nextRow 28 = .ok (.iinc 1 (-1), 3) := dk_132 1 255 (dk_at dksX2_nextRow_1 4 rfl rfl)
theorem dX2_nextRow_31 : decode cX2_nextRow 31 = .ok (.goto (-24), 3) := dk_167 255 232 (dk_at dksX2_nextRow_1 7 rfl rfl)
theorem dX2_nextRow_34 : decode cX2_nextRow 34 = .ok (.iload_n 1, 1) := dk_27 (dk_at dksX2_nextRow_1 10 rfl rfl)
theorem dX2_nextRow_35 : decode cX2_nextRow 35 = .ok (.ifCond .ge 5, 3) := dk_156 0 5 (dk_at dksX2_nextRow_1 11 rfl rfl)
theorem dX2_nextRow_38 : decode cX2_nextRow 38 = .ok (.iconst 0, 1) := dk_3 (dk_at dksX2_nextRow_1 14 rfl rfl)
theorem dX2_nextRow_39 : decode cX2_nextRow 39 = .ok (.ireturn, 1) := dk_172 (dk_at dksX2_nextRow_1 15 rfl rfl)
theorem dX2_nextRow_40 : decode cX2_nextRow 40 = .ok (.aload_n 0, 1) := dk_42 (dk_at dksX2_nextRow_1 16 rfl rfl)
theorem dX2_nextRow_41 : decode cX2_nextRow 41 = .ok (.getfield 442, 3) := dk_180 1 186 (dk_at dksX2_nextRow_1 17 rfl rfl)
theorem dX2_nextRow_44 : decode cX2_nextRow 44 = .ok (.iconst 1, 1) := dk_4 (dk_at dksX2_nextRow_1 20 rfl rfl)
theorem dX2_nextRow_45 : decode cX2_nextRow 45 = .ok (.isub, 1) := dk_100 (dk_at dksX2_nextRow_1 21 rfl rfl)
theorem dX2_nextRow_46 : decode cX2_nextRow 46 = .ok (.istore_n 2, 1) := dk_61 (dk_at dksX2_nextRow_1 22 rfl rfl)
theorem dX2_nextRow_47 : decode cX2_nextRow 47 = .ok (.aload_n 0, 1) := dk_42 (dk_at dksX2_nextRow_1 23 rfl rfl)
theorem dX2_nextRow_48 : decode cX2_nextRow 48 = .ok (.getfield 55, 3) := dk_180 0 55 (dk_at dksX2_nextRow_2 0 rfl rfl)
theorem dX2_nextRow_51 : decode cX2_nextRow 51 = .ok (.iload_n 2, 1) := dk_28 (dk_at dksX2_nextRow_2 3 rfl rfl)
theorem dX2_nextRow_52 : decode cX2_nextRow 52 = .ok (.iaload, 1) := dk_46 (dk_at dksX2_nextRow_2 4 rfl rfl)
theorem dX2_nextRow_53 : decode cX2_nextRow 53 = .ok (.aload_n 0, 1) := dk_42 (dk_at dksX2_nextRow_2 5 rfl rfl)
theorem dX2_nextRow_54 : decode cX2_nextRow 54 = .ok (.getfield 55, 3) := dk_180 0 55 (dk_at dksX2_nextRow_2 6 rfl rfl)
theorem dX2_nextRow_57 : decode cX2_nextRow 57 = .ok (.iload_n 1, 1) := dk_27 (dk_at dksX2_nextRow_2 9 rfl rfl)
theorem dX2_nextRow_58 : decode cX2_nextRow 58 = .ok (.iaload, 1) := dk_46 (dk_at dksX2_nextRow_2 10 rfl rfl)
theorem dX2_nextRow_59 : decode cX2_nextRow 59 = .ok (.if_icmp .ge 9, 3) := dk_162 0 9 (dk_at dksX2_nextRow_2 11 rfl rfl)
theorem dX2_nextRow_62 : decode cX2_nextRow 62 = .ok (.iinc 2 (-1), 3) := dk_132 2 255 (dk_at dksX2_nextRow_2 14 rfl rfl)
theorem dX2_nextRow_65 : decode cX2_nextRow 65 = .ok (.goto (-18), 3) := dk_167 255 238 (dk_at dksX2_nextRow_2 17 rfl rfl)
theorem dX2_nextRow_68 : decode cX2_nextRow 68 = .ok (.aload_n 0, 1) := dk_42 (dk_at dksX2_nextRow_2 20 rfl rfl)
theorem dX2_nextRow_69 : decode cX2_nextRow 69 = .ok (.getfield 55, 3) := dk_180 0 55 (dk_at dksX2_nextRow_2 21 rfl rfl)
theorem dX2_nextRow_72 : decode cX2_nextRow 72 = .ok (.iload_n 1, 1) := dk_27 (dk_at dksX2_nextRow_3 0 rfl rfl)
theorem dX2_nextRow_73 : decode cX2_nextRow 73 = .ok (.iaload, 1) := dk_46 (dk_at dksX2_nextRow_3 1 rfl rfl)
theorem dX2_nextRow_74 : decode cX2_nextRow 74 = .ok (.istore_n 3, 1) := dk_62 (dk_at dksX2_nextRow_3 2 rfl rfl)
theorem dX2_nextRow_75 : decode cX2_nextRow 75 = .ok (.aload_n 0, 1) := dk_42 (dk_at dksX2_nextRow_3 3 rfl rfl)
theorem dX2_nextRow_76 : decode cX2_nextRow 76 = .ok (.getfield 55, 3) := dk_180 0 55 (dk_at dksX2_nextRow_3 4 rfl rfl)
theorem dX2_nextRow_79 : decode cX2_nextRow 79 = .ok (.iload_n 1, 1) := dk_27 (dk_at dksX2_nextRow_3 7 rfl rfl)
theorem dX2_nextRow_80 : decode cX2_nextRow 80 = .ok (.aload_n 0, 1) := dk_42 (dk_at dksX2_nextRow_3 8 rfl rfl)
theorem dX2_nextRow_81 : decode cX2_nextRow 81 = .ok (.getfield 55, 3) := dk_180 0 55 (dk_at dksX2_nextRow_3 9 rfl rfl)
theorem dX2_nextRow_84 : decode cX2_nextRow 84 = .ok (.iload_n 2, 1) := dk_28 (dk_at dksX2_nextRow_3 12 rfl rfl)
theorem dX2_nextRow_85 : decode cX2_nextRow 85 = .ok (.iaload, 1) := dk_46 (dk_at dksX2_nextRow_3 13 rfl rfl)
theorem dX2_nextRow_86 : decode cX2_nextRow 86 = .ok (.iastore, 1) := dk_79 (dk_at dksX2_nextRow_3 14 rfl rfl)
theorem dX2_nextRow_87 : decode cX2_nextRow 87 = .ok (.aload_n 0, 1) := dk_42 (dk_at dksX2_nextRow_3 15 rfl rfl)
theorem dX2_nextRow_88 : decode cX2_nextRow 88 = .ok (.getfield 55, 3) := dk_180 0 55 (dk_at dksX2_nextRow_3 16 rfl rfl)
theorem dX2_nextRow_91 : decode cX2_nextRow 91 = .ok (.iload_n 2, 1) := dk_28 (dk_at dksX2_nextRow_3 19 rfl rfl)
theorem dX2_nextRow_92 : decode cX2_nextRow 92 = .ok (.iload_n 3, 1) := dk_29 (dk_at dksX2_nextRow_3 20 rfl rfl)
theorem dX2_nextRow_93 : decode cX2_nextRow 93 = .ok (.iastore, 1) := dk_79 (dk_at dksX2_nextRow_3 21 rfl rfl)
theorem dX2_nextRow_94 : decode cX2_nextRow 94 = .ok (.iload_n 1, 1) := dk_27 (dk_at dksX2_nextRow_3 22 rfl rfl)
theorem dX2_nextRow_95 : decode cX2_nextRow 95 = .ok (.iconst 1, 1) := dk_4 (dk_at dksX2_nextRow_3 23 rfl rfl)
theorem dX2_nextRow_96 : decode cX2_nextRow 96 = .ok (.iadd, 1) := dk_96 (dk_at dksX2_nextRow_4 0 rfl rfl)
theorem dX2_nextRow_97 : decode cX2_nextRow 97 = .ok (.istore 4, 2) := dk_54 4 (dk_at dksX2_nextRow_4 1 rfl rfl)
theorem dX2_nextRow_99 : decode cX2_nextRow 99 = .ok (.aload_n 0, 1) := dk_42 (dk_at dksX2_nextRow_4 3 rfl rfl)
theorem dX2_nextRow_100 : decode cX2_nextRow 100 = .ok (.getfield 442, 3) := dk_180 1 186 (dk_at dksX2_nextRow_4 4 rfl rfl)
theorem dX2_nextRow_103 : decode cX2_nextRow 103 = .ok (.iconst 1, 1) := dk_4 (dk_at dksX2_nextRow_4 7 rfl rfl)
theorem dX2_nextRow_104 : decode cX2_nextRow 104 = .ok (.isub, 1) := dk_100 (dk_at dksX2_nextRow_4 8 rfl rfl)
theorem dX2_nextRow_105 : decode cX2_nextRow 105 = .ok (.istore 5, 2) := dk_54 5 (dk_at dksX2_nextRow_4 9 rfl rfl)
theorem dX2_nextRow_107 : decode cX2_nextRow 107 = .ok (.iload 4, 2) := dk_21 4 (dk_at dksX2_nextRow_4 11 rfl rfl)
theorem dX2_nextRow_109 : decode cX2_nextRow 109 = .ok (.iload 5, 2) := dk_21 5 (dk_at dksX2_nextRow_4 13 rfl rfl)
theorem dX2_nextRow_111 : decode cX2_nextRow 111 = .ok (.if_icmp .ge 42, 3) := dk_162 0 42 (dk_at dksX2_nextRow_4 15 rfl rfl)
theorem dX2_nextRow_114 : decode cX2_nextRow 114 = .ok (.aload_n 0, 1) := dk_42 (dk_at dksX2_nextRow_4 18 rfl rfl)
theorem dX2_nextRow_115 : decode cX2_nextRow 115 = .ok (.getfield 55, 3) := dk_180 0 55 (dk_at dksX2_nextRow_4 19 rfl rfl)
theorem dX2_nextRow_118 : decode cX2_nextRow 118 = .ok (.iload 4, 2) := dk_21 4 (dk_at dksX2_nextRow_4 22 rfl rfl)
theorem dX2_nextRow_120 : decode cX2_nextRow 120 = .ok (.iaload, 1) := dk_46 (dk_at dksX2_nextRow_5 0 rfl rfl)
theorem dX2_nextRow_121 : decode cX2_nextRow 121 = .ok (.istore_n 3, 1) := dk_62 (dk_at dksX2_nextRow_5 1 rfl rfl)
theorem dX2_nextRow_122 : decode cX2_nextRow 122 = .ok (.aload_n 0, 1) := dk_42 (dk_at dksX2_nextRow_5 2 rfl rfl)
theorem dX2_nextRow_123 : decode cX2_nextRow 123 = .ok (.getfield 55, 3) := dk_180 0 55 (dk_at dksX2_nextRow_5 3 rfl rfl)
theorem dX2_nextRow_126 : decode cX2_nextRow 126 = .ok (.iload 4, 2) := dk_21 4 (dk_at dksX2_nextRow_5 6 rfl rfl)
theorem dX2_nextRow_128 : decode cX2_nextRow 128 = .ok (.aload_n 0, 1) := dk_42 (dk_at dksX2_nextRow_5 8 rfl rfl)
theorem dX2_nextRow_129 : decode cX2_nextRow 129 = .ok (.getfield 55, 3) := dk_180 0 55 (dk_at dksX2_nextRow_5 9 rfl rfl)
theorem dX2_nextRow_132 : decode cX2_nextRow 132 = .ok (.iload 5, 2) := dk_21 5 (dk_at dksX2_nextRow_5 12 rfl rfl)
theorem dX2_nextRow_134 : decode cX2_nextRow 134 = .ok (.iaload, 1) := dk_46 (dk_at dksX2_nextRow_5 14 rfl rfl)
theorem dX2_nextRow_135 : decode cX2_nextRow 135 = .ok (.iastore, 1) := dk_79 (dk_at dksX2_nextRow_5 15 rfl rfl)
theorem dX2_nextRow_136 : decode cX2_nextRow 136 = .ok (.aload_n 0, 1) := dk_42 (dk_at dksX2_nextRow_5 16 rfl rfl)
theorem dX2_nextRow_137 : decode cX2_nextRow 137 = .ok (.getfield 55, 3) := dk_180 0 55 (dk_at dksX2_nextRow_5 17 rfl rfl)
theorem dX2_nextRow_140 : decode cX2_nextRow 140 = .ok (.iload 5, 2) := dk_21 5 (dk_at dksX2_nextRow_5 20 rfl rfl)
theorem dX2_nextRow_142 : decode cX2_nextRow 142 = .ok (.iload_n 3, 1) := dk_29 (dk_at dksX2_nextRow_5 22 rfl rfl)
theorem dX2_nextRow_143 : decode cX2_nextRow 143 = .ok (.iastore, 1) := dk_79 (dk_at dksX2_nextRow_5 23 rfl rfl)
theorem dX2_nextRow_144 : decode cX2_nextRow 144 = .ok (.iinc 4 1, 3) := dk_132 4 1 (dk_at dksX2_nextRow_6 0 rfl rfl)
theorem dX2_nextRow_147 : decode cX2_nextRow 147 = .ok (.iinc 5 (-1), 3) := dk_132 5 255 (dk_at dksX2_nextRow_6 3 rfl rfl)
theorem dX2_nextRow_150 : decode cX2_nextRow 150 = .ok (.goto (-43), 3) := dk_167 255 213 (dk_at dksX2_nextRow_6 6 rfl rfl)
theorem dX2_nextRow_153 : decode cX2_nextRow 153 = .ok (.iconst 1, 1) := dk_4 (dk_at dksX2_nextRow_6 9 rfl rfl)
theorem dX2_nextRow_154 : decode cX2_nextRow 154 = .ok (.ireturn, 1) := dk_172 (dk_at dksX2_nextRow_6 10 rfl rfl)
abbrev cX2_twoJibs : ByteArray := prog_19_method_130_code
def yX2_twoJibs : MethodName := ⟨RX2, "twoJibs", "(II)I"⟩
def dkwX2_twoJibs_7 : List UInt8 := [21, 4, 46, 28, 159, 0, 9, 132, 4, 1, 167, 255, 242, 42, 180, 0, 64, 21, 4, 46, 172]
abbrev dktX2_twoJibs_7 : List UInt8 := dkwX2_twoJibs_7 ++ []
def dkwX2_twoJibs_6 : List UInt8 := [167, 255, 211, 132, 4, 1, 167, 255, 148, 28, 2, 160, 0, 5, 29, 172, 3, 54, 4, 42, 180, 0, 49]
abbrev dktX2_twoJibs_6 : List UInt8 := dkwX2_twoJibs_6 ++ dktX2_twoJibs_7
def dkwX2_twoJibs_5 : List UInt8 := [79, 42, 180, 0, 64, 42, 180, 0, 55, 21, 6, 46, 42, 180, 0, 61, 21, 6, 46, 79, 132, 6, 1]
abbrev dktX2_twoJibs_5 : List UInt8 := dkwX2_twoJibs_5 ++ dktX2_twoJibs_6
def dkwX2_twoJibs_4 : List UInt8 := [54, 6, 21, 6, 42, 180, 1, 186, 162, 0, 42, 42, 180, 0, 58, 21, 6, 42, 180, 0, 55, 21, 6, 46]
abbrev dktX2_twoJibs_4 : List UInt8 := dkwX2_twoJibs_4 ++ dktX2_twoJibs_5
def dkwX2_twoJibs_3 : List UInt8 := [163, 0, 73, 21, 5, 29, 160, 0, 13, 42, 182, 1, 204, 154, 0, 6, 167, 0, 57, 21, 5, 62, 3]
abbrev dktX2_twoJibs_3 : List UInt8 := dkwX2_twoJibs_3 ++ dktX2_twoJibs_4
def dkwX2_twoJibs_2 : List UInt8 := [162, 0, 103, 42, 21, 4, 182, 1, 198, 154, 0, 6, 167, 0, 85, 42, 182, 1, 201, 54, 5, 21, 5, 29]
abbrev dktX2_twoJibs_2 : List UInt8 := dkwX2_twoJibs_2 ++ dktX2_twoJibs_3
def dkwX2_twoJibs_1 : List UInt8 := [28, 184, 0, 241, 154, 0, 5, 2, 172, 19, 1, 135, 62, 3, 54, 4, 21, 4, 4, 42, 180, 1, 186, 120]
abbrev dktX2_twoJibs_1 : List UInt8 := dkwX2_twoJibs_1 ++ dktX2_twoJibs_2
def dkwX2_twoJibs_0 : List UInt8 := [42, 27, 16, 8, 182, 1, 189, 153, 0, 24, 28, 2, 159, 0, 21, 42, 28, 182, 1, 88, 153, 0, 11, 27]
abbrev dktX2_twoJibs_0 : List UInt8 := dkwX2_twoJibs_0 ++ dktX2_twoJibs_1
theorem dksX2_twoJibs_0 : cX2_twoJibs.data.toList.drop 0 = dktX2_twoJibs_0 := by decide +kernel
theorem dksX2_twoJibs_1 : cX2_twoJibs.data.toList.drop 24 = dktX2_twoJibs_1 := dk_seg dksX2_twoJibs_0 24 rfl rfl
theorem dksX2_twoJibs_2 : cX2_twoJibs.data.toList.drop 48 = dktX2_twoJibs_2 := dk_seg dksX2_twoJibs_1 24 rfl rfl
theorem dksX2_twoJibs_3 : cX2_twoJibs.data.toList.drop 72 = dktX2_twoJibs_3 := dk_seg dksX2_twoJibs_2 24 rfl rfl
theorem dksX2_twoJibs_4 : cX2_twoJibs.data.toList.drop 95 = dktX2_twoJibs_4 := dk_seg dksX2_twoJibs_3 23 rfl rfl
theorem dksX2_twoJibs_5 : cX2_twoJibs.data.toList.drop 119 = dktX2_twoJibs_5 := dk_seg dksX2_twoJibs_4 24 rfl rfl
theorem dksX2_twoJibs_6 : cX2_twoJibs.data.toList.drop 142 = dktX2_twoJibs_6 := dk_seg dksX2_twoJibs_5 23 rfl rfl
theorem dksX2_twoJibs_7 : cX2_twoJibs.data.toList.drop 165 = dktX2_twoJibs_7 := dk_seg dksX2_twoJibs_6 23 rfl rfl
theorem dX2_twoJibs_0 : decode cX2_twoJibs 0 = .ok (.aload_n 0, 1) := dk_42 (dk_at dksX2_twoJibs_0 0 rfl rfl)
theorem dX2_twoJibs_1 : decode cX2_twoJibs 1 = .ok (.iload_n 1, 1) := dk_27 (dk_at dksX2_twoJibs_0 1 rfl rfl)
theorem dX2_twoJibs_2 : decode cX2_twoJibs 2 = .ok (.bipush 8, 2) := dk_16 8 (dk_at dksX2_twoJibs_0 2 rfl rfl)
theorem dX2_twoJibs_4 : decode cX2_twoJibs 4 = .ok (.invokevirtual 445, 3) := dk_182 1 189 (dk_at dksX2_twoJibs_0 4 rfl rfl)
theorem dX2_twoJibs_7 : decode cX2_twoJibs 7 = .ok (.ifCond .eq 24, 3) := dk_153 0 24 (dk_at dksX2_twoJibs_0 7 rfl rfl)
theorem dX2_twoJibs_10 : decode cX2_twoJibs 10 = .ok (.iload_n 2, 1) := dk_28 (dk_at dksX2_twoJibs_0 10 rfl rfl)
theorem dX2_twoJibs_11 : decode cX2_twoJibs 11 = .ok (.iconst (-1), 1) := dk_2 (dk_at dksX2_twoJibs_0 11 rfl rfl)
theorem dX2_twoJibs_12 : decode cX2_twoJibs 12 = .ok (.if_icmp .eq 21, 3) := dk_159 0 21 (dk_at dksX2_twoJibs_0 12 rfl rfl)
theorem dX2_twoJibs_15 : decode cX2_twoJibs 15 = .ok (.aload_n 0, 1) := dk_42 (dk_at dksX2_twoJibs_0 15 rfl rfl)
theorem dX2_twoJibs_16 : decode cX2_twoJibs 16 = .ok (.iload_n 2, 1) := dk_28 (dk_at dksX2_twoJibs_0 16 rfl rfl)
theorem dX2_twoJibs_17 : decode cX2_twoJibs 17 = .ok (.invokevirtual 344, 3) := dk_182 1 88 (dk_at dksX2_twoJibs_0 17 rfl rfl)
theorem dX2_twoJibs_20 : decode cX2_twoJibs 20 = .ok (.ifCond .eq 11, 3) := dk_153 0 11 (dk_at dksX2_twoJibs_0 20 rfl rfl)
theorem dX2_twoJibs_23 : decode cX2_twoJibs 23 = .ok (.iload_n 1, 1) := dk_27 (dk_at dksX2_twoJibs_0 23 rfl rfl)
theorem dX2_twoJibs_24 : decode cX2_twoJibs 24 = .ok (.iload_n 2, 1) := dk_28 (dk_at dksX2_twoJibs_1 0 rfl rfl)
theorem dX2_twoJibs_25 : decode cX2_twoJibs 25 = .ok (.invokestatic 241, 3) := dk_184 0 241 (dk_at dksX2_twoJibs_1 1 rfl rfl)
theorem dX2_twoJibs_28 : decode cX2_twoJibs 28 = .ok (.ifCond .ne 5, 3) := dk_154 0 5 (dk_at dksX2_twoJibs_1 4 rfl rfl)
theorem dX2_twoJibs_31 : decode cX2_twoJibs 31 = .ok (.iconst (-1), 1) := dk_2 (dk_at dksX2_twoJibs_1 7 rfl rfl)
theorem dX2_twoJibs_32 : decode cX2_twoJibs 32 = .ok (.ireturn, 1) := dk_172 (dk_at dksX2_twoJibs_1 8 rfl rfl)
theorem dX2_twoJibs_33 : decode cX2_twoJibs 33 = .ok (.ldc_w 391, 3) := dk_19 1 135 (dk_at dksX2_twoJibs_1 9 rfl rfl)
theorem dX2_twoJibs_36 : decode cX2_twoJibs 36 = .ok (.istore_n 3, 1) := dk_62 (dk_at dksX2_twoJibs_1 12 rfl rfl)
theorem dX2_twoJibs_37 : decode cX2_twoJibs 37 = .ok (.iconst 0, 1) := dk_3 (dk_at dksX2_twoJibs_1 13 rfl rfl)
theorem dX2_twoJibs_38 : decode cX2_twoJibs 38 = .ok (.istore 4, 2) := dk_54 4 (dk_at dksX2_twoJibs_1 14 rfl rfl)
theorem dX2_twoJibs_40 : decode cX2_twoJibs 40 = .ok (.iload 4, 2) := dk_21 4 (dk_at dksX2_twoJibs_1 16 rfl rfl)
theorem dX2_twoJibs_42 : decode cX2_twoJibs 42 = .ok (.iconst 1, 1) := dk_4 (dk_at dksX2_twoJibs_1 18 rfl rfl)
theorem dX2_twoJibs_43 : decode cX2_twoJibs 43 = .ok (.aload_n 0, 1) := dk_42 (dk_at dksX2_twoJibs_1 19 rfl rfl)
theorem dX2_twoJibs_44 : decode cX2_twoJibs 44 = .ok (.getfield 442, 3) := dk_180 1 186 (dk_at dksX2_twoJibs_1 20 rfl rfl)
theorem dX2_twoJibs_47 : decode cX2_twoJibs 47 = .ok (.ishl, 1) := dk_120 (dk_at dksX2_twoJibs_1 23 rfl rfl)
theorem dX2_twoJibs_48 : decode cX2_twoJibs 48 = .ok (.if_icmp .ge 103, 3) := dk_162 0 103 (dk_at dksX2_twoJibs_2 0 rfl rfl)
theorem dX2_twoJibs_51 : decode cX2_twoJibs 51 = .ok (.aload_n 0, 1) := dk_42 (dk_at dksX2_twoJibs_2 3 rfl rfl)
theorem dX2_twoJibs_52 : decode cX2_twoJibs 52 = .ok (.iload 4, 2) := dk_21 4 (dk_at dksX2_twoJibs_2 4 rfl rfl)
theorem dX2_twoJibs_54 : decode cX2_twoJibs 54 = .ok (.invokevirtual 454, 3) := dk_182 1 198 (dk_at dksX2_twoJibs_2 6 rfl rfl)
theorem dX2_twoJibs_57 : decode cX2_twoJibs 57 = .ok (.ifCond .ne 6, 3) := dk_154 0 6 (dk_at dksX2_twoJibs_2 9 rfl rfl)
theorem dX2_twoJibs_60 : decode cX2_twoJibs 60 = .ok (.goto 85, 3) := dk_167 0 85 (dk_at dksX2_twoJibs_2 12 rfl rfl)
theorem dX2_twoJibs_63 : decode cX2_twoJibs 63 = .ok (.aload_n 0, 1) := dk_42 (dk_at dksX2_twoJibs_2 15 rfl rfl)
theorem dX2_twoJibs_64 : decode cX2_twoJibs 64 = .ok (.invokevirtual 457, 3) := dk_182 1 201 (dk_at dksX2_twoJibs_2 16 rfl rfl)
theorem dX2_twoJibs_67 : decode cX2_twoJibs 67 = .ok (.istore 5, 2) := dk_54 5 (dk_at dksX2_twoJibs_2 19 rfl rfl)
theorem dX2_twoJibs_69 : decode cX2_twoJibs 69 = .ok (.iload 5, 2) := dk_21 5 (dk_at dksX2_twoJibs_2 21 rfl rfl)
theorem dX2_twoJibs_71 : decode cX2_twoJibs 71 = .ok (.iload_n 3, 1) := dk_29 (dk_at dksX2_twoJibs_2 23 rfl rfl)
theorem dX2_twoJibs_72 : decode cX2_twoJibs 72 = .ok (.if_icmp .gt 73, 3) := dk_163 0 73 (dk_at dksX2_twoJibs_3 0 rfl rfl)
theorem dX2_twoJibs_75 : decode cX2_twoJibs 75 = .ok (.iload 5, 2) := dk_21 5 (dk_at dksX2_twoJibs_3 3 rfl rfl)
theorem dX2_twoJibs_77 : decode cX2_twoJibs 77 = .ok (.iload_n 3, 1) := dk_29 (dk_at dksX2_twoJibs_3 5 rfl rfl)
theorem dX2_twoJibs_78 : decode cX2_twoJibs 78 = .ok (.if_icmp .ne 13, 3) := dk_160 0 13 (dk_at dksX2_twoJibs_3 6 rfl rfl)
theorem dX2_twoJibs_81 : decode cX2_twoJibs 81 = .ok (.aload_n 0, 1) := dk_42 (dk_at dksX2_twoJibs_3 9 rfl rfl)
theorem dX2_twoJibs_82 : decode cX2_twoJibs 82 = .ok (.invokevirtual 460, 3) := dk_182 1 204 (dk_at dksX2_twoJibs_3 10 rfl rfl)
theorem dX2_twoJibs_85 : decode cX2_twoJibs 85 = .ok (.ifCond .ne 6, 3) := dk_154 0 6 (dk_at dksX2_twoJibs_3 13 rfl rfl)
theorem dX2_twoJibs_88 : decode cX2_twoJibs 88 = .ok (.goto 57, 3) := dk_167 0 57 (dk_at dksX2_twoJibs_3 16 rfl rfl)
theorem dX2_twoJibs_91 : decode cX2_twoJibs 91 = .ok (.iload 5, 2) := dk_21 5 (dk_at dksX2_twoJibs_3 19 rfl rfl)
theorem dX2_twoJibs_93 : decode cX2_twoJibs 93 = .ok (.istore_n 3, 1) := dk_62 (dk_at dksX2_twoJibs_3 21 rfl rfl)
theorem dX2_twoJibs_94 : decode cX2_twoJibs 94 = .ok (.iconst 0, 1) := dk_3 (dk_at dksX2_twoJibs_3 22 rfl rfl)
theorem dX2_twoJibs_95 : decode cX2_twoJibs 95 = .ok (.istore 6, 2) := dk_54 6 (dk_at dksX2_twoJibs_4 0 rfl rfl)
theorem dX2_twoJibs_97 : decode cX2_twoJibs 97 = .ok (.iload 6, 2) := dk_21 6 (dk_at dksX2_twoJibs_4 2 rfl rfl)
theorem dX2_twoJibs_99 : decode cX2_twoJibs 99 = .ok (.aload_n 0, 1) := dk_42 (dk_at dksX2_twoJibs_4 4 rfl rfl)
theorem dX2_twoJibs_100 : decode cX2_twoJibs 100 = .ok (.getfield 442, 3) := dk_180 1 186 (dk_at dksX2_twoJibs_4 5 rfl rfl)
theorem dX2_twoJibs_103 : decode cX2_twoJibs 103 = .ok (.if_icmp .ge 42, 3) := dk_162 0 42 (dk_at dksX2_twoJibs_4 8 rfl rfl)
theorem dX2_twoJibs_106 : decode cX2_twoJibs 106 = .ok (.aload_n 0, 1) := dk_42 (dk_at dksX2_twoJibs_4 11 rfl rfl)
theorem dX2_twoJibs_107 : decode cX2_twoJibs 107 = .ok (.getfield 58, 3) := dk_180 0 58 (dk_at dksX2_twoJibs_4 12 rfl rfl)
theorem dX2_twoJibs_110 : decode cX2_twoJibs 110 = .ok (.iload 6, 2) := dk_21 6 (dk_at dksX2_twoJibs_4 15 rfl rfl)
theorem dX2_twoJibs_112 : decode cX2_twoJibs 112 = .ok (.aload_n 0, 1) := dk_42 (dk_at dksX2_twoJibs_4 17 rfl rfl)
theorem dX2_twoJibs_113 : decode cX2_twoJibs 113 = .ok (.getfield 55, 3) := dk_180 0 55 (dk_at dksX2_twoJibs_4 18 rfl rfl)
theorem dX2_twoJibs_116 : decode cX2_twoJibs 116 = .ok (.iload 6, 2) := dk_21 6 (dk_at dksX2_twoJibs_4 21 rfl rfl)
theorem dX2_twoJibs_118 : decode cX2_twoJibs 118 = .ok (.iaload, 1) := dk_46 (dk_at dksX2_twoJibs_4 23 rfl rfl)
theorem dX2_twoJibs_119 : decode cX2_twoJibs 119 = .ok (.iastore, 1) := dk_79 (dk_at dksX2_twoJibs_5 0 rfl rfl)
theorem dX2_twoJibs_120 : decode cX2_twoJibs 120 = .ok (.aload_n 0, 1) := dk_42 (dk_at dksX2_twoJibs_5 1 rfl rfl)
theorem dX2_twoJibs_121 : decode cX2_twoJibs 121 = .ok (.getfield 64, 3) := dk_180 0 64 (dk_at dksX2_twoJibs_5 2 rfl rfl)
theorem dX2_twoJibs_124 : decode cX2_twoJibs 124 = .ok (.aload_n 0, 1) := dk_42 (dk_at dksX2_twoJibs_5 5 rfl rfl)
theorem dX2_twoJibs_125 : decode cX2_twoJibs 125 = .ok (.getfield 55, 3) := dk_180 0 55 (dk_at dksX2_twoJibs_5 6 rfl rfl)
theorem dX2_twoJibs_128 : decode cX2_twoJibs 128 = .ok (.iload 6, 2) := dk_21 6 (dk_at dksX2_twoJibs_5 9 rfl rfl)
theorem dX2_twoJibs_130 : decode cX2_twoJibs 130 = .ok (.iaload, 1) := dk_46 (dk_at dksX2_twoJibs_5 11 rfl rfl)
theorem dX2_twoJibs_131 : decode cX2_twoJibs 131 = .ok (.aload_n 0, 1) := dk_42 (dk_at dksX2_twoJibs_5 12 rfl rfl)
theorem dX2_twoJibs_132 : decode cX2_twoJibs 132 = .ok (.getfield 61, 3) := dk_180 0 61 (dk_at dksX2_twoJibs_5 13 rfl rfl)
theorem dX2_twoJibs_135 : decode cX2_twoJibs 135 = .ok (.iload 6, 2) := dk_21 6 (dk_at dksX2_twoJibs_5 16 rfl rfl)
theorem dX2_twoJibs_137 : decode cX2_twoJibs 137 = .ok (.iaload, 1) := dk_46 (dk_at dksX2_twoJibs_5 18 rfl rfl)
theorem dX2_twoJibs_138 : decode cX2_twoJibs 138 = .ok (.iastore, 1) := dk_79 (dk_at dksX2_twoJibs_5 19 rfl rfl)
theorem dX2_twoJibs_139 : decode cX2_twoJibs 139 = .ok (.iinc 6 1, 3) := dk_132 6 1 (dk_at dksX2_twoJibs_5 20 rfl rfl)
theorem dX2_twoJibs_142 : decode cX2_twoJibs 142 = .ok (.goto (-45), 3) := dk_167 255 211 (dk_at dksX2_twoJibs_6 0 rfl rfl)
theorem dX2_twoJibs_145 : decode cX2_twoJibs 145 = .ok (.iinc 4 1, 3) := dk_132 4 1 (dk_at dksX2_twoJibs_6 3 rfl rfl)
theorem dX2_twoJibs_148 : decode cX2_twoJibs 148 = .ok (.goto (-108), 3) := dk_167 255 148 (dk_at dksX2_twoJibs_6 6 rfl rfl)
theorem dX2_twoJibs_151 : decode cX2_twoJibs 151 = .ok (.iload_n 2, 1) := dk_28 (dk_at dksX2_twoJibs_6 9 rfl rfl)
theorem dX2_twoJibs_152 : decode cX2_twoJibs 152 = .ok (.iconst (-1), 1) := dk_2 (dk_at dksX2_twoJibs_6 10 rfl rfl)
theorem dX2_twoJibs_153 : decode cX2_twoJibs 153 = .ok (.if_icmp .ne 5, 3) := dk_160 0 5 (dk_at dksX2_twoJibs_6 11 rfl rfl)
theorem dX2_twoJibs_156 : decode cX2_twoJibs 156 = .ok (.iload_n 3, 1) := dk_29 (dk_at dksX2_twoJibs_6 14 rfl rfl)
theorem dX2_twoJibs_157 : decode cX2_twoJibs 157 = .ok (.ireturn, 1) := dk_172 (dk_at dksX2_twoJibs_6 15 rfl rfl)
theorem dX2_twoJibs_158 : decode cX2_twoJibs 158 = .ok (.iconst 0, 1) := dk_3 (dk_at dksX2_twoJibs_6 16 rfl rfl)
theorem dX2_twoJibs_159 : decode cX2_twoJibs 159 = .ok (.istore 4, 2) := dk_54 4 (dk_at dksX2_twoJibs_6 17 rfl rfl)
theorem dX2_twoJibs_161 : decode cX2_twoJibs 161 = .ok (.aload_n 0, 1) := dk_42 (dk_at dksX2_twoJibs_6 19 rfl rfl)
theorem dX2_twoJibs_162 : decode cX2_twoJibs 162 = .ok (.getfield 49, 3) := dk_180 0 49 (dk_at dksX2_twoJibs_6 20 rfl rfl)
theorem dX2_twoJibs_165 : decode cX2_twoJibs 165 = .ok (.iload 4, 2) := dk_21 4 (dk_at dksX2_twoJibs_7 0 rfl rfl)
theorem dX2_twoJibs_167 : decode cX2_twoJibs 167 = .ok (.iaload, 1) := dk_46 (dk_at dksX2_twoJibs_7 2 rfl rfl)
theorem dX2_twoJibs_168 : decode cX2_twoJibs 168 = .ok (.iload_n 2, 1) := dk_28 (dk_at dksX2_twoJibs_7 3 rfl rfl)
theorem dX2_twoJibs_169 : decode cX2_twoJibs 169 = .ok (.if_icmp .eq 9, 3) := dk_159 0 9 (dk_at dksX2_twoJibs_7 4 rfl rfl)
theorem dX2_twoJibs_172 : decode cX2_twoJibs 172 = .ok (.iinc 4 1, 3) := dk_132 4 1 (dk_at dksX2_twoJibs_7 7 rfl rfl)
theorem dX2_twoJibs_175 : decode cX2_twoJibs 175 = .ok (.goto (-14), 3) := dk_167 255 242 (dk_at dksX2_twoJibs_7 10 rfl rfl)
theorem dX2_twoJibs_178 : decode cX2_twoJibs 178 = .ok (.aload_n 0, 1) := dk_42 (dk_at dksX2_twoJibs_7 13 rfl rfl)
theorem dX2_twoJibs_179 : decode cX2_twoJibs 179 = .ok (.getfield 64, 3) := dk_180 0 64 (dk_at dksX2_twoJibs_7 14 rfl rfl)
theorem dX2_twoJibs_182 : decode cX2_twoJibs 182 = .ok (.iload 4, 2) := dk_21 4 (dk_at dksX2_twoJibs_7 17 rfl rfl)
theorem dX2_twoJibs_184 : decode cX2_twoJibs 184 = .ok (.iaload, 1) := dk_46 (dk_at dksX2_twoJibs_7 19 rfl rfl)
theorem dX2_twoJibs_185 : decode cX2_twoJibs 185 = .ok (.ireturn, 1) := dk_172 (dk_at dksX2_twoJibs_7 20 rfl rfl)
abbrev cX2_layJibs : ByteArray := prog_19_method_127_code
def yX2_layJibs : MethodName := ⟨RX2, "layJibs", "(I)Z"⟩
def dkwX2_layJibs_4 : List UInt8 := [4, 96, 61, 167, 0, 8, 21, 6, 4, 96, 62, 132, 4, 1, 167, 255, 154, 4, 172]
abbrev dktX2_layJibs_4 : List UInt8 := dkwX2_layJibs_4 ++ []
def dkwX2_layJibs_3 : List UInt8 := [180, 1, 186, 160, 0, 5, 3, 172, 42, 180, 0, 55, 21, 4, 21, 6, 79, 21, 5, 154, 0, 11, 21, 6]
abbrev dktX2_layJibs_3 : List UInt8 := dkwX2_layJibs_3 ++ dktX2_layJibs_4
def dkwX2_layJibs_2 : List UInt8 := [180, 0, 49, 21, 6, 46, 7, 182, 1, 39, 21, 5, 159, 0, 9, 132, 6, 1, 167, 255, 227, 21, 6, 42]
abbrev dktX2_layJibs_2 : List UInt8 := dkwX2_layJibs_2 ++ dktX2_layJibs_3
def dkwX2_layJibs_1 : List UInt8 := [21, 5, 154, 0, 7, 28, 167, 0, 4, 29, 54, 6, 21, 6, 42, 180, 1, 186, 162, 0, 26, 42, 42]
abbrev dktX2_layJibs_1 : List UInt8 := dkwX2_layJibs_1 ++ dktX2_layJibs_2
def dkwX2_layJibs_0 : List UInt8 := [3, 61, 3, 62, 3, 54, 4, 21, 4, 42, 180, 1, 186, 162, 0, 99, 27, 21, 4, 122, 4, 126, 54, 5]
abbrev dktX2_layJibs_0 : List UInt8 := dkwX2_layJibs_0 ++ dktX2_layJibs_1
theorem dksX2_layJibs_0 : cX2_layJibs.data.toList.drop 0 = dktX2_layJibs_0 := by decide +kernel
theorem dksX2_layJibs_1 : cX2_layJibs.data.toList.drop 24 = dktX2_layJibs_1 := dk_seg dksX2_layJibs_0 24 rfl rfl
theorem dksX2_layJibs_2 : cX2_layJibs.data.toList.drop 47 = dktX2_layJibs_2 := dk_seg dksX2_layJibs_1 23 rfl rfl
theorem dksX2_layJibs_3 : cX2_layJibs.data.toList.drop 71 = dktX2_layJibs_3 := dk_seg dksX2_layJibs_2 24 rfl rfl
theorem dksX2_layJibs_4 : cX2_layJibs.data.toList.drop 95 = dktX2_layJibs_4 := dk_seg dksX2_layJibs_3 24 rfl rfl
theorem dX2_layJibs_0 : decode cX2_layJibs 0 = .ok (.iconst 0, 1) := dk_3 (dk_at dksX2_layJibs_0 0 rfl rfl)
theorem dX2_layJibs_1 : decode cX2_layJibs 1 = .ok (.istore_n 2, 1) := dk_61 (dk_at dksX2_layJibs_0 1 rfl rfl)
theorem dX2_layJibs_2 : decode cX2_layJibs 2 = .ok (.iconst 0, 1) := dk_3 (dk_at dksX2_layJibs_0 2 rfl rfl)
theorem dX2_layJibs_3 : decode cX2_layJibs 3 = .ok (.istore_n 3, 1) := dk_62 (dk_at dksX2_layJibs_0 3 rfl rfl)
theorem dX2_layJibs_4 : decode cX2_layJibs 4 = .ok (.iconst 0, 1) := dk_3 (dk_at dksX2_layJibs_0 4 rfl rfl)
theorem dX2_layJibs_5 : decode cX2_layJibs 5 = .ok (.istore 4, 2) := dk_54 4 (dk_at dksX2_layJibs_0 5 rfl rfl)
theorem dX2_layJibs_7 : decode cX2_layJibs 7 = .ok (.iload 4, 2) := dk_21 4 (dk_at dksX2_layJibs_0 7 rfl rfl)
theorem dX2_layJibs_9 : decode cX2_layJibs 9 = .ok (.aload_n 0, 1) := dk_42 (dk_at dksX2_layJibs_0 9 rfl rfl)
theorem dX2_layJibs_10 : decode cX2_layJibs 10 = .ok (.getfield 442, 3) := dk_180 1 186 (dk_at dksX2_layJibs_0 10 rfl rfl)
theorem dX2_layJibs_13 : decode cX2_layJibs 13 = .ok (.if_icmp .ge 99, 3) := dk_162 0 99 (dk_at dksX2_layJibs_0 13 rfl rfl)
theorem dX2_layJibs_16 : decode cX2_layJibs 16 = .ok (.iload_n 1, 1) := dk_27 (dk_at dksX2_layJibs_0 16 rfl rfl)
theorem dX2_layJibs_17 : decode cX2_layJibs 17 = .ok (.iload 4, 2) := dk_21 4 (dk_at dksX2_layJibs_0 17 rfl rfl)
theorem dX2_layJibs_19 : decode cX2_layJibs 19 = .ok (.ishr, 1) := dk_122 (dk_at dksX2_layJibs_0 19 rfl rfl)
theorem dX2_layJibs_20 : decode cX2_layJibs 20 = .ok (.iconst 1, 1) := dk_4 (dk_at dksX2_layJibs_0 20 rfl rfl)
theorem dX2_layJibs_21 : decode cX2_layJibs 21 = .ok (.iand, 1) := dk_126 (dk_at dksX2_layJibs_0 21 rfl rfl)
theorem dX2_layJibs_22 : decode cX2_layJibs 22 = .ok (.istore 5, 2) := dk_54 5 (dk_at dksX2_layJibs_0 22 rfl rfl)
theorem dX2_layJibs_24 : decode cX2_layJibs 24 = .ok (.iload 5, 2) := dk_21 5 (dk_at dksX2_layJibs_1 0 rfl rfl)
theorem dX2_layJibs_26 : decode cX2_layJibs 26 = .ok (.ifCond .ne 7, 3) := dk_154 0 7 (dk_at dksX2_layJibs_1 2 rfl rfl)
theorem dX2_layJibs_29 : decode cX2_layJibs 29 = .ok (.iload_n 2, 1) := dk_28 (dk_at dksX2_layJibs_1 5 rfl rfl)
theorem dX2_layJibs_30 : decode cX2_layJibs 30 = .ok (.goto 4, 3) := dk_167 0 4 (dk_at dksX2_layJibs_1 6 rfl rfl)
theorem dX2_layJibs_33 : decode cX2_layJibs 33 = .ok (.iload_n 3, 1) := dk_29 (dk_at dksX2_layJibs_1 9 rfl rfl)
theorem dX2_layJibs_34 : decode cX2_layJibs 34 = .ok (.istore 6, 2) := dk_54 6 (dk_at dksX2_layJibs_1 10 rfl rfl)
theorem dX2_layJibs_36 : decode cX2_layJibs 36 = .ok (.iload 6, 2) := dk_21 6 (dk_at dksX2_layJibs_1 12 rfl rfl)
theorem dX2_layJibs_38 : decode cX2_layJibs 38 = .ok (.aload_n 0, 1) := dk_42 (dk_at dksX2_layJibs_1 14 rfl rfl)
theorem dX2_layJibs_39 : decode cX2_layJibs 39 = .ok (.getfield 442, 3) := dk_180 1 186 (dk_at dksX2_layJibs_1 15 rfl rfl)
theorem dX2_layJibs_42 : decode cX2_layJibs 42 = .ok (.if_icmp .ge 26, 3) := dk_162 0 26 (dk_at dksX2_layJibs_1 18 rfl rfl)
theorem dX2_layJibs_45 : decode cX2_layJibs 45 = .ok (.aload_n 0, 1) := dk_42 (dk_at dksX2_layJibs_1 21 rfl rfl)
theorem dX2_layJibs_46 : decode cX2_layJibs 46 = .ok (.aload_n 0, 1) := dk_42 (dk_at dksX2_layJibs_1 22 rfl rfl)
theorem dX2_layJibs_47 : decode cX2_layJibs 47 = .ok (.getfield 49, 3) := dk_180 0 49 (dk_at dksX2_layJibs_2 0 rfl rfl)
theorem dX2_layJibs_50 : decode cX2_layJibs 50 = .ok (.iload 6, 2) := dk_21 6 (dk_at dksX2_layJibs_2 3 rfl rfl)
theorem dX2_layJibs_52 : decode cX2_layJibs 52 = .ok (.iaload, 1) := dk_46 (dk_at dksX2_layJibs_2 5 rfl rfl)
theorem dX2_layJibs_53 : decode cX2_layJibs 53 = .ok (.iconst 4, 1) := dk_7 (dk_at dksX2_layJibs_2 6 rfl rfl)
theorem dX2_layJibs_54 : decode cX2_layJibs 54 = .ok (.invokevirtual 295, 3) := dk_182 1 39 (dk_at dksX2_layJibs_2 7 rfl rfl)
theorem dX2_layJibs_57 : decode cX2_layJibs 57 = .ok (.iload 5, 2) := dk_21 5 (dk_at dksX2_layJibs_2 10 rfl rfl)
theorem dX2_layJibs_59 : decode cX2_layJibs 59 = .ok (.if_icmp .eq 9, 3) := dk_159 0 9 (dk_at dksX2_layJibs_2 12 rfl rfl)
theorem dX2_layJibs_62 : decode cX2_layJibs 62 = .ok (.iinc 6 1, 3) := dk_132 6 1 (dk_at dksX2_layJibs_2 15 rfl rfl)
theorem dX2_layJibs_65 : decode cX2_layJibs 65 = .ok (.goto (-29), 3) := dk_167 255 227 (dk_at dksX2_layJibs_2 18 rfl rfl)
theorem dX2_layJibs_68 : decode cX2_layJibs 68 = .ok (.iload 6, 2) := dk_21 6 (dk_at dksX2_layJibs_2 21 rfl rfl)
theorem dX2_layJibs_70 : decode cX2_layJibs 70 = .ok (.aload_n 0, 1) := dk_42 (dk_at dksX2_layJibs_2 23 rfl rfl)
theorem dX2_layJibs_71 : decode cX2_layJibs 71 = .ok (.getfield 442, 3) := dk_180 1 186 (dk_at dksX2_layJibs_3 0 rfl rfl)
theorem dX2_layJibs_74 : decode cX2_layJibs 74 = .ok (.if_icmp .ne 5, 3) := dk_160 0 5 (dk_at dksX2_layJibs_3 3 rfl rfl)
theorem dX2_layJibs_77 : decode cX2_layJibs 77 = .ok (.iconst 0, 1) := dk_3 (dk_at dksX2_layJibs_3 6 rfl rfl)
theorem dX2_layJibs_78 : decode cX2_layJibs 78 = .ok (.ireturn, 1) := dk_172 (dk_at dksX2_layJibs_3 7 rfl rfl)
theorem dX2_layJibs_79 : decode cX2_layJibs 79 = .ok (.aload_n 0, 1) := dk_42 (dk_at dksX2_layJibs_3 8 rfl rfl)
theorem dX2_layJibs_80 : decode cX2_layJibs 80 = .ok (.getfield 55, 3) := dk_180 0 55 (dk_at dksX2_layJibs_3 9 rfl rfl)
theorem dX2_layJibs_83 : decode cX2_layJibs 83 = .ok (.iload 4, 2) := dk_21 4 (dk_at dksX2_layJibs_3 12 rfl rfl)
theorem dX2_layJibs_85 : decode cX2_layJibs 85 = .ok (.iload 6, 2) := dk_21 6 (dk_at dksX2_layJibs_3 14 rfl rfl)
theorem dX2_layJibs_87 : decode cX2_layJibs 87 = .ok (.iastore, 1) := dk_79 (dk_at dksX2_layJibs_3 16 rfl rfl)
theorem dX2_layJibs_88 : decode cX2_layJibs 88 = .ok (.iload 5, 2) := dk_21 5 (dk_at dksX2_layJibs_3 17 rfl rfl)
theorem dX2_layJibs_90 : decode cX2_layJibs 90 = .ok (.ifCond .ne 11, 3) := dk_154 0 11 (dk_at dksX2_layJibs_3 19 rfl rfl)
theorem dX2_layJibs_93 : decode cX2_layJibs 93 = .ok (.iload 6, 2) := dk_21 6 (dk_at dksX2_layJibs_3 22 rfl rfl)
theorem dX2_layJibs_95 : decode cX2_layJibs 95 = .ok (.iconst 1, 1) := dk_4 (dk_at dksX2_layJibs_4 0 rfl rfl)
theorem dX2_layJibs_96 : decode cX2_layJibs 96 = .ok (.iadd, 1) := dk_96 (dk_at dksX2_layJibs_4 1 rfl rfl)
theorem dX2_layJibs_97 : decode cX2_layJibs 97 = .ok (.istore_n 2, 1) := dk_61 (dk_at dksX2_layJibs_4 2 rfl rfl)
theorem dX2_layJibs_98 : decode cX2_layJibs 98 = .ok (.goto 8, 3) := dk_167 0 8 (dk_at dksX2_layJibs_4 3 rfl rfl)
theorem dX2_layJibs_101 : decode cX2_layJibs 101 = .ok (.iload 6, 2) := dk_21 6 (dk_at dksX2_layJibs_4 6 rfl rfl)
theorem dX2_layJibs_103 : decode cX2_layJibs 103 = .ok (.iconst 1, 1) := dk_4 (dk_at dksX2_layJibs_4 8 rfl rfl)
theorem dX2_layJibs_104 : decode cX2_layJibs 104 = .ok (.iadd, 1) := dk_96 (dk_at dksX2_layJibs_4 9 rfl rfl)
theorem dX2_layJibs_105 : decode cX2_layJibs 105 = .ok (.istore_n 3, 1) := dk_62 (dk_at dksX2_layJibs_4 10 rfl rfl)
theorem dX2_layJibs_106 : decode cX2_layJibs 106 = .ok (.iinc 4 1, 3) := dk_132 4 1 (dk_at dksX2_layJibs_4 11 rfl rfl)
theorem dX2_layJibs_109 : decode cX2_layJibs 109 = .ok (.goto (-102), 3) := dk_167 255 154 (dk_at dksX2_layJibs_4 14 rfl rfl)
theorem dX2_layJibs_112 : decode cX2_layJibs 112 = .ok (.iconst 1, 1) := dk_4 (dk_at dksX2_layJibs_4 17 rfl rfl)
theorem dX2_layJibs_113 : decode cX2_layJibs 113 = .ok (.ireturn, 1) := dk_172 (dk_at dksX2_layJibs_4 18 rfl rfl)
abbrev cX2_doneBy : ByteArray := prog_19_method_128_code
def yX2_doneBy : MethodName := ⟨RX2, "doneBy", "()I"⟩
def dkwX2_doneBy_8 : List UInt8 := [180, 0, 52, 29, 46, 96, 167, 0, 4, 27, 60, 132, 2, 1, 167, 255, 57, 27, 172]
abbrev dktX2_doneBy_8 : List UInt8 := dkwX2_doneBy_8 ++ []
def dkwX2_doneBy_7 : List UInt8 := [180, 0, 61, 28, 46, 42, 180, 0, 52, 29, 46, 96, 27, 164, 0, 19, 42, 180, 0, 61, 28, 46, 42]
abbrev dktX2_doneBy_7 : List UInt8 := dkwX2_doneBy_7 ++ dktX2_doneBy_8
def dkwX2_doneBy_6 : List UInt8 := [28, 42, 180, 0, 61, 21, 4, 46, 42, 180, 0, 52, 21, 5, 46, 96, 79, 132, 4, 1, 167, 255, 123, 42]
abbrev dktX2_doneBy_6 : List UInt8 := dkwX2_doneBy_6 ++ dktX2_doneBy_7
def dkwX2_doneBy_5 : List UInt8 := [21, 4, 46, 42, 180, 0, 52, 21, 5, 46, 96, 42, 180, 0, 61, 28, 46, 164, 0, 24, 42, 180, 0, 61]
abbrev dktX2_doneBy_5 : List UInt8 := dkwX2_doneBy_5 ++ dktX2_doneBy_6
def dkwX2_doneBy_4 : List UInt8 := [184, 1, 67, 16, 10, 162, 0, 7, 4, 167, 0, 4, 3, 54, 6, 21, 6, 153, 0, 48, 42, 180, 0, 61]
abbrev dktX2_doneBy_4 : List UInt8 := dkwX2_doneBy_4 ++ dktX2_doneBy_5
def dkwX2_doneBy_3 : List UInt8 := [42, 42, 180, 0, 49, 21, 5, 46, 4, 182, 1, 39, 42, 42, 180, 0, 49, 29, 46, 4, 182, 1, 39, 100]
abbrev dktX2_doneBy_3 : List UInt8 := dkwX2_doneBy_3 ++ dktX2_doneBy_4
def dkwX2_doneBy_2 : List UInt8 := [180, 0, 49, 21, 5, 46, 7, 182, 1, 39, 42, 42, 180, 0, 49, 29, 46, 7, 182, 1, 39, 159, 0, 35]
abbrev dktX2_doneBy_2 : List UInt8 := dkwX2_doneBy_2 ++ dktX2_doneBy_3
def dkwX2_doneBy_1 : List UInt8 := [3, 79, 3, 54, 4, 21, 4, 28, 162, 0, 133, 42, 180, 0, 55, 21, 4, 46, 54, 5, 42, 42]
abbrev dktX2_doneBy_1 : List UInt8 := dkwX2_doneBy_1 ++ dktX2_doneBy_2
def dkwX2_doneBy_0 : List UInt8 := [3, 60, 3, 61, 28, 42, 180, 1, 186, 162, 0, 197, 42, 180, 0, 55, 28, 46, 62, 42, 180, 0, 61, 28]
abbrev dktX2_doneBy_0 : List UInt8 := dkwX2_doneBy_0 ++ dktX2_doneBy_1
theorem dksX2_doneBy_0 : cX2_doneBy.data.toList.drop 0 = dktX2_doneBy_0 := by decide +kernel
theorem dksX2_doneBy_1 : cX2_doneBy.data.toList.drop 24 = dktX2_doneBy_1 := dk_seg dksX2_doneBy_0 24 rfl rfl
theorem dksX2_doneBy_2 : cX2_doneBy.data.toList.drop 46 = dktX2_doneBy_2 := dk_seg dksX2_doneBy_1 22 rfl rfl
theorem dksX2_doneBy_3 : cX2_doneBy.data.toList.drop 70 = dktX2_doneBy_3 := dk_seg dksX2_doneBy_2 24 rfl rfl
theorem dksX2_doneBy_4 : cX2_doneBy.data.toList.drop 94 = dktX2_doneBy_4 := dk_seg dksX2_doneBy_3 24 rfl rfl
theorem dksX2_doneBy_5 : cX2_doneBy.data.toList.drop 118 = dktX2_doneBy_5 := dk_seg dksX2_doneBy_4 24 rfl rfl
theorem dksX2_doneBy_6 : cX2_doneBy.data.toList.drop 142 = dktX2_doneBy_6 := dk_seg dksX2_doneBy_5 24 rfl rfl
theorem dksX2_doneBy_7 : cX2_doneBy.data.toList.drop 166 = dktX2_doneBy_7 := dk_seg dksX2_doneBy_6 24 rfl rfl
theorem dksX2_doneBy_8 : cX2_doneBy.data.toList.drop 189 = dktX2_doneBy_8 := dk_seg dksX2_doneBy_7 23 rfl rfl
theorem dX2_doneBy_0 : decode cX2_doneBy 0 = .ok (.iconst 0, 1) := dk_3 (dk_at dksX2_doneBy_0 0 rfl rfl)
theorem dX2_doneBy_1 : decode cX2_doneBy 1 = .ok (.istore_n 1, 1) := dk_60 (dk_at dksX2_doneBy_0 1 rfl rfl)
theorem dX2_doneBy_2 : decode cX2_doneBy 2 = .ok (.iconst 0, 1) := dk_3 (dk_at dksX2_doneBy_0 2 rfl rfl)
theorem dX2_doneBy_3 : decode cX2_doneBy 3 = .ok (.istore_n 2, 1) := dk_61 (dk_at dksX2_doneBy_0 3 rfl rfl)
theorem dX2_doneBy_4 : decode cX2_doneBy 4 = .ok (.iload_n 2, 1) := dk_28 (dk_at dksX2_doneBy_0 4 rfl rfl)
theorem dX2_doneBy_5 : decode cX2_doneBy 5 = .ok (.aload_n 0, 1) := dk_42 (dk_at dksX2_doneBy_0 5 rfl rfl)
theorem dX2_doneBy_6 : decode cX2_doneBy 6 = .ok (.getfield 442, 3) := dk_180 1 186 (dk_at dksX2_doneBy_0 6 rfl rfl)
theorem dX2_doneBy_9 : decode cX2_doneBy 9 = .ok (.if_icmp .ge 197, 3) := dk_162 0 197 (dk_at dksX2_doneBy_0 9 rfl rfl)
theorem dX2_doneBy_12 : decode cX2_doneBy 12 = .ok (.aload_n 0, 1) := dk_42 (dk_at dksX2_doneBy_0 12 rfl rfl)
theorem dX2_doneBy_13 : decode cX2_doneBy 13 = .ok (.getfield 55, 3) := dk_180 0 55 (dk_at dksX2_doneBy_0 13 rfl rfl)
theorem dX2_doneBy_16 : decode cX2_doneBy 16 = .ok (.iload_n 2, 1) := dk_28 (dk_at dksX2_doneBy_0 16 rfl rfl)
theorem dX2_doneBy_17 : decode cX2_doneBy 17 = .ok (.iaload, 1) := dk_46 (dk_at dksX2_doneBy_0 17 rfl rfl)
theorem dX2_doneBy_18 : decode cX2_doneBy 18 = .ok (.istore_n 3, 1) := dk_62 (dk_at dksX2_doneBy_0 18 rfl rfl)
theorem dX2_doneBy_19 : decode cX2_doneBy 19 = .ok (.aload_n 0, 1) := dk_42 (dk_at dksX2_doneBy_0 19 rfl rfl)
theorem dX2_doneBy_20 : decode cX2_doneBy 20 = .ok (.getfield 61, 3) := dk_180 0 61 (dk_at dksX2_doneBy_0 20 rfl rfl)
theorem dX2_doneBy_23 : decode cX2_doneBy 23 = .ok (.iload_n 2, 1) := dk_28 (dk_at dksX2_doneBy_0 23 rfl rfl)
theorem dX2_doneBy_24 : decode cX2_doneBy 24 = .ok (.iconst 0, 1) := dk_3 (dk_at dksX2_doneBy_1 0 rfl rfl)
theorem dX2_doneBy_25 : decode cX2_doneBy 25 = .ok (.iastore, 1) := dk_79 (dk_at dksX2_doneBy_1 1 rfl rfl)
theorem dX2_doneBy_26 : decode cX2_doneBy 26 = .ok (.iconst 0, 1) := dk_3 (dk_at dksX2_doneBy_1 2 rfl rfl)
theorem dX2_doneBy_27 : decode cX2_doneBy 27 = .ok (.istore 4, 2) := dk_54 4 (dk_at dksX2_doneBy_1 3 rfl rfl)
theorem dX2_doneBy_29 : decode cX2_doneBy 29 = .ok (.iload 4, 2) := dk_21 4 (dk_at dksX2_doneBy_1 5 rfl rfl)
theorem dX2_doneBy_31 : decode cX2_doneBy 31 = .ok (.iload_n 2, 1) := dk_28 (dk_at dksX2_doneBy_1 7 rfl rfl)
theorem dX2_doneBy_32 : decode cX2_doneBy 32 = .ok (.if_icmp .ge 133, 3) := dk_162 0 133 (dk_at dksX2_doneBy_1 8 rfl rfl)
theorem dX2_doneBy_35 : decode cX2_doneBy 35 = .ok (.aload_n 0, 1) := dk_42 (dk_at dksX2_doneBy_1 11 rfl rfl)
theorem dX2_doneBy_36 : decode cX2_doneBy 36 = .ok (.getfield 55, 3) := dk_180 0 55 (dk_at dksX2_doneBy_1 12 rfl rfl)
theorem dX2_doneBy_39 : decode cX2_doneBy 39 = .ok (.iload 4, 2) := dk_21 4 (dk_at dksX2_doneBy_1 15 rfl rfl)
theorem dX2_doneBy_41 : decode cX2_doneBy 41 = .ok (.iaload, 1) := dk_46 (dk_at dksX2_doneBy_1 17 rfl rfl)
theorem dX2_doneBy_42 : decode cX2_doneBy 42 = .ok (.istore 5, 2) := dk_54 5 (dk_at dksX2_doneBy_1 18 rfl rfl)
theorem dX2_doneBy_44 : decode cX2_doneBy 44 = .ok (.aload_n 0, 1) := dk_42 (dk_at dksX2_doneBy_1 20 rfl rfl)
theorem dX2_doneBy_45 : decode cX2_doneBy 45 = .ok (.aload_n 0, 1) := dk_42 (dk_at dksX2_doneBy_1 21 rfl rfl)
theorem dX2_doneBy_46 : decode cX2_doneBy 46 = .ok (.getfield 49, 3) := dk_180 0 49 (dk_at dksX2_doneBy_2 0 rfl rfl)
theorem dX2_doneBy_49 : decode cX2_doneBy 49 = .ok (.iload 5, 2) := dk_21 5 (dk_at dksX2_doneBy_2 3 rfl rfl)
theorem dX2_doneBy_51 : decode cX2_doneBy 51 = .ok (.iaload, 1) := dk_46 (dk_at dksX2_doneBy_2 5 rfl rfl)
theorem dX2_doneBy_52 : decode cX2_doneBy 52 = .ok (.iconst 4, 1) := dk_7 (dk_at dksX2_doneBy_2 6 rfl rfl)
theorem dX2_doneBy_53 : decode cX2_doneBy 53 = .ok (.invokevirtual 295, 3) := dk_182 1 39 (dk_at dksX2_doneBy_2 7 rfl rfl)
theorem dX2_doneBy_56 : decode cX2_doneBy 56 = .ok (.aload_n 0, 1) := dk_42 (dk_at dksX2_doneBy_2 10 rfl rfl)
theorem dX2_doneBy_57 : decode cX2_doneBy 57 = .ok (.aload_n 0, 1) := dk_42 (dk_at dksX2_doneBy_2 11 rfl rfl)
theorem dX2_doneBy_58 : decode cX2_doneBy 58 = .ok (.getfield 49, 3) := dk_180 0 49 (dk_at dksX2_doneBy_2 12 rfl rfl)
theorem dX2_doneBy_61 : decode cX2_doneBy 61 = .ok (.iload_n 3, 1) := dk_29 (dk_at dksX2_doneBy_2 15 rfl rfl)
theorem dX2_doneBy_62 : decode cX2_doneBy 62 = .ok (.iaload, 1) := dk_46 (dk_at dksX2_doneBy_2 16 rfl rfl)
theorem dX2_doneBy_63 : decode cX2_doneBy 63 = .ok (.iconst 4, 1) := dk_7 (dk_at dksX2_doneBy_2 17 rfl rfl)
theorem dX2_doneBy_64 : decode cX2_doneBy 64 = .ok (.invokevirtual 295, 3) := dk_182 1 39 (dk_at dksX2_doneBy_2 18 rfl rfl)
theorem dX2_doneBy_67 : decode cX2_doneBy 67 = .ok (.if_icmp .eq 35, 3) := dk_159 0 35 (dk_at dksX2_doneBy_2 21 rfl rfl)
theorem dX2_doneBy_70 : decode cX2_doneBy 70 = .ok (.aload_n 0, 1) := dk_42 (dk_at dksX2_doneBy_3 0 rfl rfl)
theorem dX2_doneBy_71 : decode cX2_doneBy 71 = .ok (.aload_n 0, 1) := dk_42 (dk_at dksX2_doneBy_3 1 rfl rfl)
theorem dX2_doneBy_72 : decode cX2_doneBy 72 = .ok (.getfield 49, 3) := dk_180 0 49 (dk_at dksX2_doneBy_3 2 rfl rfl)
theorem dX2_doneBy_75 : decode cX2_doneBy 75 = .ok (.iload 5, 2) := dk_21 5 (dk_at dksX2_doneBy_3 5 rfl rfl)
theorem dX2_doneBy_77 : decode cX2_doneBy 77 = .ok (.iaload, 1) := dk_46 (dk_at dksX2_doneBy_3 7 rfl rfl)
theorem dX2_doneBy_78 : decode cX2_doneBy 78 = .ok (.iconst 1, 1) := dk_4 (dk_at dksX2_doneBy_3 8 rfl rfl)
theorem dX2_doneBy_79 : decode cX2_doneBy 79 = .ok (.invokevirtual 295, 3) := dk_182 1 39 (dk_at dksX2_doneBy_3 9 rfl rfl)
theorem dX2_doneBy_82 : decode cX2_doneBy 82 = .ok (.aload_n 0, 1) := dk_42 (dk_at dksX2_doneBy_3 12 rfl rfl)
theorem dX2_doneBy_83 : decode cX2_doneBy 83 = .ok (.aload_n 0, 1) := dk_42 (dk_at dksX2_doneBy_3 13 rfl rfl)
theorem dX2_doneBy_84 : decode cX2_doneBy 84 = .ok (.getfield 49, 3) := dk_180 0 49 (dk_at dksX2_doneBy_3 14 rfl rfl)
theorem dX2_doneBy_87 : decode cX2_doneBy 87 = .ok (.iload_n 3, 1) := dk_29 (dk_at dksX2_doneBy_3 17 rfl rfl)
theorem dX2_doneBy_88 : decode cX2_doneBy 88 = .ok (.iaload, 1) := dk_46 (dk_at dksX2_doneBy_3 18 rfl rfl)
theorem dX2_doneBy_89 : decode cX2_doneBy 89 = .ok (.iconst 1, 1) := dk_4 (dk_at dksX2_doneBy_3 19 rfl rfl)
theorem dX2_doneBy_90 : decode cX2_doneBy 90 = .ok (.invokevirtual 295, 3) := dk_182 1 39 (dk_at dksX2_doneBy_3 20 rfl rfl)
theorem dX2_doneBy_93 : decode cX2_doneBy 93 = .ok (.isub, 1) := dk_100 (dk_at dksX2_doneBy_3 23 rfl rfl)
theorem dX2_doneBy_94 : decode cX2_doneBy 94 = .ok (.invokestatic 323, 3) := dk_184 1 67 (dk_at dksX2_doneBy_4 0 rfl rfl)
theorem dX2_doneBy_97 : decode cX2_doneBy 97 = .ok (.bipush 10, 2) := dk_16 10 (dk_at dksX2_doneBy_4 3 rfl rfl)
theorem dX2_doneBy_99 : decode cX2_doneBy 99 = .ok (.if_icmp .ge 7, 3) := dk_162 0 7 (dk_at dksX2_doneBy_4 5 rfl rfl)
theorem dX2_doneBy_102 : decode cX2_doneBy 102 = .ok (.iconst 1, 1) := dk_4 (dk_at dksX2_doneBy_4 8 rfl rfl)
theorem dX2_doneBy_103 : decode cX2_doneBy 103 = .ok (.goto 4, 3) := dk_167 0 4 (dk_at dksX2_doneBy_4 9 rfl rfl)
theorem dX2_doneBy_106 : decode cX2_doneBy 106 = .ok (.iconst 0, 1) := dk_3 (dk_at dksX2_doneBy_4 12 rfl rfl)
theorem dX2_doneBy_107 : decode cX2_doneBy 107 = .ok (.istore 6, 2) := dk_54 6 (dk_at dksX2_doneBy_4 13 rfl rfl)
theorem dX2_doneBy_109 : decode cX2_doneBy 109 = .ok (.iload 6, 2) := dk_21 6 (dk_at dksX2_doneBy_4 15 rfl rfl)
theorem dX2_doneBy_111 : decode cX2_doneBy 111 = .ok (.ifCond .eq 48, 3) := dk_153 0 48 (dk_at dksX2_doneBy_4 17 rfl rfl)
theorem dX2_doneBy_114 : decode cX2_doneBy 114 = .ok (.aload_n 0, 1) := dk_42 (dk_at dksX2_doneBy_4 20 rfl rfl)
theorem dX2_doneBy_115 : decode cX2_doneBy 115 = .ok (.getfield 61, 3) := dk_180 0 61 (dk_at dksX2_doneBy_4 21 rfl rfl)
theorem dX2_doneBy_118 : decode cX2_doneBy 118 = .ok (.iload 4, 2) := dk_21 4 (dk_at dksX2_doneBy_5 0 rfl rfl)
theorem dX2_doneBy_120 : decode cX2_doneBy 120 = .ok (.iaload, 1) := dk_46 (dk_at dksX2_doneBy_5 2 rfl rfl)
theorem dX2_doneBy_121 : decode cX2_doneBy 121 = .ok (.aload_n 0, 1) := dk_42 (dk_at dksX2_doneBy_5 3 rfl rfl)
theorem dX2_doneBy_122 : decode cX2_doneBy 122 = .ok (.getfield 52, 3) := dk_180 0 52 (dk_at dksX2_doneBy_5 4 rfl rfl)
theorem dX2_doneBy_125 : decode cX2_doneBy 125 = .ok (.iload 5, 2) := dk_21 5 (dk_at dksX2_doneBy_5 7 rfl rfl)
theorem dX2_doneBy_127 : decode cX2_doneBy 127 = .ok (.iaload, 1) := dk_46 (dk_at dksX2_doneBy_5 9 rfl rfl)
theorem dX2_doneBy_128 : decode cX2_doneBy 128 = .ok (.iadd, 1) := dk_96 (dk_at dksX2_doneBy_5 10 rfl rfl)
theorem dX2_doneBy_129 : decode cX2_doneBy 129 = .ok (.aload_n 0, 1) := dk_42 (dk_at dksX2_doneBy_5 11 rfl rfl)
theorem dX2_doneBy_130 : decode cX2_doneBy 130 = .ok (.getfield 61, 3) := dk_180 0 61 (dk_at dksX2_doneBy_5 12 rfl rfl)
theorem dX2_doneBy_133 : decode cX2_doneBy 133 = .ok (.iload_n 2, 1) := dk_28 (dk_at dksX2_doneBy_5 15 rfl rfl)
theorem dX2_doneBy_134 : decode cX2_doneBy 134 = .ok (.iaload, 1) := dk_46 (dk_at dksX2_doneBy_5 16 rfl rfl)
theorem dX2_doneBy_135 : decode cX2_doneBy 135 = .ok (.if_icmp .le 24, 3) := dk_164 0 24 (dk_at dksX2_doneBy_5 17 rfl rfl)
theorem dX2_doneBy_138 : decode cX2_doneBy 138 = .ok (.aload_n 0, 1) := dk_42 (dk_at dksX2_doneBy_5 20 rfl rfl)
theorem dX2_doneBy_139 : decode cX2_doneBy 139 = .ok (.getfield 61, 3) := dk_180 0 61 (dk_at dksX2_doneBy_5 21 rfl rfl)
theorem dX2_doneBy_142 : decode cX2_doneBy 142 = .ok (.iload_n 2, 1) := dk_28 (dk_at dksX2_doneBy_6 0 rfl rfl)
theorem dX2_doneBy_143 : decode cX2_doneBy 143 = .ok (.aload_n 0, 1) := dk_42 (dk_at dksX2_doneBy_6 1 rfl rfl)
theorem dX2_doneBy_144 : decode cX2_doneBy 144 = .ok (.getfield 61, 3) := dk_180 0 61 (dk_at dksX2_doneBy_6 2 rfl rfl)
theorem dX2_doneBy_147 : decode cX2_doneBy 147 = .ok (.iload 4, 2) := dk_21 4 (dk_at dksX2_doneBy_6 5 rfl rfl)
theorem dX2_doneBy_149 : decode cX2_doneBy 149 = .ok (.iaload, 1) := dk_46 (dk_at dksX2_doneBy_6 7 rfl rfl)
theorem dX2_doneBy_150 : decode cX2_doneBy 150 = .ok (.aload_n 0, 1) := dk_42 (dk_at dksX2_doneBy_6 8 rfl rfl)
theorem dX2_doneBy_151 : decode cX2_doneBy 151 = .ok (.getfield 52, 3) := dk_180 0 52 (dk_at dksX2_doneBy_6 9 rfl rfl)
theorem dX2_doneBy_154 : decode cX2_doneBy 154 = .ok (.iload 5, 2) := dk_21 5 (dk_at dksX2_doneBy_6 12 rfl rfl)
theorem dX2_doneBy_156 : decode cX2_doneBy 156 = .ok (.iaload, 1) := dk_46 (dk_at dksX2_doneBy_6 14 rfl rfl)
theorem dX2_doneBy_157 : decode cX2_doneBy 157 = .ok (.iadd, 1) := dk_96 (dk_at dksX2_doneBy_6 15 rfl rfl)
theorem dX2_doneBy_158 : decode cX2_doneBy 158 = .ok (.iastore, 1) := dk_79 (dk_at dksX2_doneBy_6 16 rfl rfl)
theorem dX2_doneBy_159 : decode cX2_doneBy 159 = .ok (.iinc 4 1, 3) := dk_132 4 1 (dk_at dksX2_doneBy_6 17 rfl rfl)
theorem dX2_doneBy_162 : decode cX2_doneBy 162 = .ok (.goto (-133), 3) := dk_167 255 123 (dk_at dksX2_doneBy_6 20 rfl rfl)
theorem dX2_doneBy_165 : decode cX2_doneBy 165 = .ok (.aload_n 0, 1) := dk_42 (dk_at dksX2_doneBy_6 23 rfl rfl)
theorem dX2_doneBy_166 : decode cX2_doneBy 166 = .ok (.getfield 61, 3) := dk_180 0 61 (dk_at dksX2_doneBy_7 0 rfl rfl)
theorem dX2_doneBy_169 : decode cX2_doneBy 169 = .ok (.iload_n 2, 1) := dk_28 (dk_at dksX2_doneBy_7 3 rfl rfl)
theorem dX2_doneBy_170 : decode cX2_doneBy 170 = .ok (.iaload, 1) := dk_46 (dk_at dksX2_doneBy_7 4 rfl rfl)
theorem dX2_doneBy_171 : decode cX2_doneBy 171 = .ok (.aload_n 0, 1) := dk_42 (dk_at dksX2_doneBy_7 5 rfl rfl)
theorem dX2_doneBy_172 : decode cX2_doneBy 172 = .ok (.getfield 52, 3) := dk_180 0 52 (dk_at dksX2_doneBy_7 6 rfl rfl)
theorem dX2_doneBy_175 : decode cX2_doneBy 175 = .ok (.iload_n 3, 1) := dk_29 (dk_at dksX2_doneBy_7 9 rfl rfl)
theorem dX2_doneBy_176 : decode cX2_doneBy 176 = .ok (.iaload, 1) := dk_46 (dk_at dksX2_doneBy_7 10 rfl rfl)
theorem dX2_doneBy_177 : decode cX2_doneBy 177 = .ok (.iadd, 1) := dk_96 (dk_at dksX2_doneBy_7 11 rfl rfl)
theorem dX2_doneBy_178 : decode cX2_doneBy 178 = .ok (.iload_n 1, 1) := dk_27 (dk_at dksX2_doneBy_7 12 rfl rfl)
theorem dX2_doneBy_179 : decode cX2_doneBy 179 = .ok (.if_icmp .le 19, 3) := dk_164 0 19 (dk_at dksX2_doneBy_7 13 rfl rfl)
theorem dX2_doneBy_182 : decode cX2_doneBy 182 = .ok (.aload_n 0, 1) := dk_42 (dk_at dksX2_doneBy_7 16 rfl rfl)
theorem dX2_doneBy_183 : decode cX2_doneBy 183 = .ok (.getfield 61, 3) := dk_180 0 61 (dk_at dksX2_doneBy_7 17 rfl rfl)
theorem dX2_doneBy_186 : decode cX2_doneBy 186 = .ok (.iload_n 2, 1) := dk_28 (dk_at dksX2_doneBy_7 20 rfl rfl)
theorem dX2_doneBy_187 : decode cX2_doneBy 187 = .ok (.iaload, 1) := dk_46 (dk_at dksX2_doneBy_7 21 rfl rfl)
theorem dX2_doneBy_188 : decode cX2_doneBy 188 = .ok (.aload_n 0, 1) := dk_42 (dk_at dksX2_doneBy_7 22 rfl rfl)
theorem dX2_doneBy_189 : decode cX2_doneBy 189 = .ok (.getfield 52, 3) := dk_180 0 52 (dk_at dksX2_doneBy_8 0 rfl rfl)
theorem dX2_doneBy_192 : decode cX2_doneBy 192 = .ok (.iload_n 3, 1) := dk_29 (dk_at dksX2_doneBy_8 3 rfl rfl)
theorem dX2_doneBy_193 : decode cX2_doneBy 193 = .ok (.iaload, 1) := dk_46 (dk_at dksX2_doneBy_8 4 rfl rfl)
theorem dX2_doneBy_194 : decode cX2_doneBy 194 = .ok (.iadd, 1) := dk_96 (dk_at dksX2_doneBy_8 5 rfl rfl)
theorem dX2_doneBy_195 : decode cX2_doneBy 195 = .ok (.goto 4, 3) := dk_167 0 4 (dk_at dksX2_doneBy_8 6 rfl rfl)
theorem dX2_doneBy_198 : decode cX2_doneBy 198 = .ok (.iload_n 1, 1) := dk_27 (dk_at dksX2_doneBy_8 9 rfl rfl)
theorem dX2_doneBy_199 : decode cX2_doneBy 199 = .ok (.istore_n 1, 1) := dk_60 (dk_at dksX2_doneBy_8 10 rfl rfl)
theorem dX2_doneBy_200 : decode cX2_doneBy 200 = .ok (.iinc 2 1, 3) := dk_132 2 1 (dk_at dksX2_doneBy_8 11 rfl rfl)
theorem dX2_doneBy_203 : decode cX2_doneBy 203 = .ok (.goto (-199), 3) := dk_167 255 57 (dk_at dksX2_doneBy_8 14 rfl rfl)
theorem dX2_doneBy_206 : decode cX2_doneBy 206 = .ok (.iload_n 1, 1) := dk_27 (dk_at dksX2_doneBy_8 17 rfl rfl)
theorem dX2_doneBy_207 : decode cX2_doneBy 207 = .ok (.ireturn, 1) := dk_172 (dk_at dksX2_doneBy_8 18 rfl rfl)
abbrev cX2_isAhead : ByteArray := prog_19_method_129_code
def yX2_isAhead : MethodName := ⟨RX2, "isAhead", "()Z"⟩
def dkwX2_isAhead_2 : List UInt8 := [180, 0, 58, 27, 46, 162, 0, 7, 4, 167, 0, 4, 3, 172]
abbrev dktX2_isAhead_2 : List UInt8 := dkwX2_isAhead_2 ++ []
def dkwX2_isAhead_1 : List UInt8 := [160, 0, 9, 132, 1, 1, 167, 255, 230, 27, 42, 180, 1, 186, 162, 0, 22, 42, 180, 0, 55, 27, 46, 42]
abbrev dktX2_isAhead_1 : List UInt8 := dkwX2_isAhead_1 ++ dktX2_isAhead_2
def dkwX2_isAhead_0 : List UInt8 := [3, 60, 27, 42, 180, 1, 186, 162, 0, 24, 42, 180, 0, 55, 27, 46, 42, 180, 0, 58, 27, 46]
abbrev dktX2_isAhead_0 : List UInt8 := dkwX2_isAhead_0 ++ dktX2_isAhead_1
theorem dksX2_isAhead_0 : cX2_isAhead.data.toList.drop 0 = dktX2_isAhead_0 := by decide +kernel
theorem dksX2_isAhead_1 : cX2_isAhead.data.toList.drop 22 = dktX2_isAhead_1 := dk_seg dksX2_isAhead_0 22 rfl rfl
theorem dksX2_isAhead_2 : cX2_isAhead.data.toList.drop 46 = dktX2_isAhead_2 := dk_seg dksX2_isAhead_1 24 rfl rfl
theorem dX2_isAhead_0 : decode cX2_isAhead 0 = .ok (.iconst 0, 1) := dk_3 (dk_at dksX2_isAhead_0 0 rfl rfl)
theorem dX2_isAhead_1 : decode cX2_isAhead 1 = .ok (.istore_n 1, 1) := dk_60 (dk_at dksX2_isAhead_0 1 rfl rfl)
theorem dX2_isAhead_2 : decode cX2_isAhead 2 = .ok (.iload_n 1, 1) := dk_27 (dk_at dksX2_isAhead_0 2 rfl rfl)
theorem dX2_isAhead_3 : decode cX2_isAhead 3 = .ok (.aload_n 0, 1) := dk_42 (dk_at dksX2_isAhead_0 3 rfl rfl)
theorem dX2_isAhead_4 : decode cX2_isAhead 4 = .ok (.getfield 442, 3) := dk_180 1 186 (dk_at dksX2_isAhead_0 4 rfl rfl)
theorem dX2_isAhead_7 : decode cX2_isAhead 7 = .ok (.if_icmp .ge 24, 3) := dk_162 0 24 (dk_at dksX2_isAhead_0 7 rfl rfl)
theorem dX2_isAhead_10 : decode cX2_isAhead 10 = .ok (.aload_n 0, 1) := dk_42 (dk_at dksX2_isAhead_0 10 rfl rfl)
theorem dX2_isAhead_11 : decode cX2_isAhead 11 = .ok (.getfield 55, 3) := dk_180 0 55 (dk_at dksX2_isAhead_0 11 rfl rfl)
theorem dX2_isAhead_14 : decode cX2_isAhead 14 = .ok (.iload_n 1, 1) := dk_27 (dk_at dksX2_isAhead_0 14 rfl rfl)
theorem dX2_isAhead_15 : decode cX2_isAhead 15 = .ok (.iaload, 1) := dk_46 (dk_at dksX2_isAhead_0 15 rfl rfl)
theorem dX2_isAhead_16 : decode cX2_isAhead 16 = .ok (.aload_n 0, 1) := dk_42 (dk_at dksX2_isAhead_0 16 rfl rfl)
theorem dX2_isAhead_17 : decode cX2_isAhead 17 = .ok (.getfield 58, 3) := dk_180 0 58 (dk_at dksX2_isAhead_0 17 rfl rfl)
theorem dX2_isAhead_20 : decode cX2_isAhead 20 = .ok (.iload_n 1, 1) := dk_27 (dk_at dksX2_isAhead_0 20 rfl rfl)
theorem dX2_isAhead_21 : decode cX2_isAhead 21 = .ok (.iaload, 1) := dk_46 (dk_at dksX2_isAhead_0 21 rfl rfl)
theorem dX2_isAhead_22 : decode cX2_isAhead 22 = .ok (.if_icmp .ne 9, 3) := dk_160 0 9 (dk_at dksX2_isAhead_1 0 rfl rfl)
theorem dX2_isAhead_25 : decode cX2_isAhead 25 = .ok (.iinc 1 1, 3) := dk_132 1 1 (dk_at dksX2_isAhead_1 3 rfl rfl)
theorem dX2_isAhead_28 : decode cX2_isAhead 28 = .ok (.goto (-26), 3) := dk_167 255 230 (dk_at dksX2_isAhead_1 6 rfl rfl)
theorem dX2_isAhead_31 : decode cX2_isAhead 31 = .ok (.iload_n 1, 1) := dk_27 (dk_at dksX2_isAhead_1 9 rfl rfl)
theorem dX2_isAhead_32 : decode cX2_isAhead 32 = .ok (.aload_n 0, 1) := dk_42 (dk_at dksX2_isAhead_1 10 rfl rfl)
theorem dX2_isAhead_33 : decode cX2_isAhead 33 = .ok (.getfield 442, 3) := dk_180 1 186 (dk_at dksX2_isAhead_1 11 rfl rfl)
theorem dX2_isAhead_36 : decode cX2_isAhead 36 = .ok (.if_icmp .ge 22, 3) := dk_162 0 22 (dk_at dksX2_isAhead_1 14 rfl rfl)
theorem dX2_isAhead_39 : decode cX2_isAhead 39 = .ok (.aload_n 0, 1) := dk_42 (dk_at dksX2_isAhead_1 17 rfl rfl)
theorem dX2_isAhead_40 : decode cX2_isAhead 40 = .ok (.getfield 55, 3) := dk_180 0 55 (dk_at dksX2_isAhead_1 18 rfl rfl)
theorem dX2_isAhead_43 : decode cX2_isAhead 43 = .ok (.iload_n 1, 1) := dk_27 (dk_at dksX2_isAhead_1 21 rfl rfl)
theorem dX2_isAhead_44 : decode cX2_isAhead 44 = .ok (.iaload, 1) := dk_46 (dk_at dksX2_isAhead_1 22 rfl rfl)
theorem dX2_isAhead_45 : decode cX2_isAhead 45 = .ok (.aload_n 0, 1) := dk_42 (dk_at dksX2_isAhead_1 23 rfl rfl)
theorem dX2_isAhead_46 : decode cX2_isAhead 46 = .ok (.getfield 58, 3) := dk_180 0 58 (dk_at dksX2_isAhead_2 0 rfl rfl)
theorem dX2_isAhead_49 : decode cX2_isAhead 49 = .ok (.iload_n 1, 1) := dk_27 (dk_at dksX2_isAhead_2 3 rfl rfl)
theorem dX2_isAhead_50 : decode cX2_isAhead 50 = .ok (.iaload, 1) := dk_46 (dk_at dksX2_isAhead_2 4 rfl rfl)
theorem dX2_isAhead_51 : decode cX2_isAhead 51 = .ok (.if_icmp .ge 7, 3) := dk_162 0 7 (dk_at dksX2_isAhead_2 5 rfl rfl)
theorem dX2_isAhead_54 : decode cX2_isAhead 54 = .ok (.iconst 1, 1) := dk_4 (dk_at dksX2_isAhead_2 8 rfl rfl)
theorem dX2_isAhead_55 : decode cX2_isAhead 55 = .ok (.goto 4, 3) := dk_167 0 4 (dk_at dksX2_isAhead_2 9 rfl rfl)
theorem dX2_isAhead_58 : decode cX2_isAhead 58 = .ok (.iconst 0, 1) := dk_3 (dk_at dksX2_isAhead_2 12 rfl rfl)
theorem dX2_isAhead_59 : decode cX2_isAhead 59 = .ok (.ireturn, 1) := dk_172 (dk_at dksX2_isAhead_2 13 rfl rfl)
abbrev cX2_said : ByteArray := prog_19_method_131_code
def yX2_said : MethodName := ⟨RX2, "said", "(IZ)I"⟩
def dkwX2_said_4 : List UInt8 := [46, 4, 96, 79, 42, 180, 0, 7, 16, 6, 46, 172]
abbrev dktX2_said_4 : List UInt8 := dkwX2_said_4 ++ []
def dkwX2_said_3 : List UInt8 := [16, 6, 46, 104, 96, 4, 96, 28, 153, 0, 7, 4, 167, 0, 4, 3, 79, 42, 180, 0, 7, 16, 6, 92]
abbrev dktX2_said_3 : List UInt8 := dkwX2_said_3 ++ dktX2_said_4
def dkwX2_said_2 : List UInt8 := [5, 42, 180, 0, 7, 16, 6, 46, 104, 96, 27, 79, 42, 180, 0, 7, 16, 68, 5, 42, 180, 0, 7]
abbrev dktX2_said_2 : List UInt8 := dkwX2_said_2 ++ dktX2_said_3
def dkwX2_said_1 : List UInt8 := [153, 0, 15, 42, 180, 0, 7, 16, 6, 46, 16, 8, 160, 0, 6, 16, 254, 172, 42, 180, 0, 7, 16, 68]
abbrev dktX2_said_1 : List UInt8 := dkwX2_said_1 ++ dktX2_said_2
def dkwX2_said_0 : List UInt8 := [27, 2, 160, 0, 13, 42, 180, 0, 7, 16, 6, 3, 79, 3, 172, 27, 3, 16, 10, 184, 0, 71]
abbrev dktX2_said_0 : List UInt8 := dkwX2_said_0 ++ dktX2_said_1
theorem dksX2_said_0 : cX2_said.data.toList.drop 0 = dktX2_said_0 := by decide +kernel
theorem dksX2_said_1 : cX2_said.data.toList.drop 22 = dktX2_said_1 := dk_seg dksX2_said_0 22 rfl rfl
theorem dksX2_said_2 : cX2_said.data.toList.drop 46 = dktX2_said_2 := dk_seg dksX2_said_1 24 rfl rfl
theorem dksX2_said_3 : cX2_said.data.toList.drop 69 = dktX2_said_3 := dk_seg dksX2_said_2 23 rfl rfl
theorem dksX2_said_4 : cX2_said.data.toList.drop 93 = dktX2_said_4 := dk_seg dksX2_said_3 24 rfl rfl
theorem dX2_said_0 : decode cX2_said 0 = .ok (.iload_n 1, 1) := dk_27 (dk_at dksX2_said_0 0 rfl rfl)
theorem dX2_said_1 : decode cX2_said 1 = .ok (.iconst (-1), 1) := dk_2 (dk_at dksX2_said_0 1 rfl rfl)
theorem dX2_said_2 : decode cX2_said 2 = .ok (.if_icmp .ne 13, 3) := dk_160 0 13 (dk_at dksX2_said_0 2 rfl rfl)
theorem dX2_said_5 : decode cX2_said 5 = .ok (.aload_n 0, 1) := dk_42 (dk_at dksX2_said_0 5 rfl rfl)
theorem dX2_said_6 : decode cX2_said 6 = .ok (.getfield 7, 3) := dk_180 0 7 (dk_at dksX2_said_0 6 rfl rfl)
theorem dX2_said_9 : decode cX2_said 9 = .ok (.bipush 6, 2) := dk_16 6 (dk_at dksX2_said_0 9 rfl rfl)
theorem dX2_said_11 : decode cX2_said 11 = .ok (.iconst 0, 1) := dk_3 (dk_at dksX2_said_0 11 rfl rfl)
theorem dX2_said_12 : decode cX2_said 12 = .ok (.iastore, 1) := dk_79 (dk_at dksX2_said_0 12 rfl rfl)
theorem dX2_said_13 : decode cX2_said 13 = .ok (.iconst 0, 1) := dk_3 (dk_at dksX2_said_0 13 rfl rfl)
theorem dX2_said_14 : decode cX2_said 14 = .ok (.ireturn, 1) := dk_172 (dk_at dksX2_said_0 14 rfl rfl)
theorem dX2_said_15 : decode cX2_said 15 = .ok (.iload_n 1, 1) := dk_27 (dk_at dksX2_said_0 15 rfl rfl)
theorem dX2_said_16 : decode cX2_said 16 = .ok (.iconst 0, 1) := dk_3 (dk_at dksX2_said_0 16 rfl rfl)
theorem dX2_said_17 : decode cX2_said 17 = .ok (.bipush 10, 2) := dk_16 10 (dk_at dksX2_said_0 17 rfl rfl)
theorem dX2_said_19 : decode cX2_said 19 = .ok (.invokestatic 71, 3) := dk_184 0 71 (dk_at dksX2_said_0 19 rfl rfl)
theorem dX2_said_22 : decode cX2_said 22 = .ok (.ifCond .eq 15, 3) := dk_153 0 15 (dk_at dksX2_said_1 0 rfl rfl)
theorem dX2_said_25 : decode cX2_said 25 = .ok (.aload_n 0, 1) := dk_42 (dk_at dksX2_said_1 3 rfl rfl)
theorem dX2_said_26 : decode cX2_said 26 = .ok (.getfield 7, 3) := dk_180 0 7 (dk_at dksX2_said_1 4 rfl rfl)
theorem dX2_said_29 : decode cX2_said 29 = .ok (.bipush 6, 2) := dk_16 6 (dk_at dksX2_said_1 7 rfl rfl)
theorem dX2_said_31 : decode cX2_said 31 = .ok (.iaload, 1) := dk_46 (dk_at dksX2_said_1 9 rfl rfl)
theorem dX2_said_32 : decode cX2_said 32 = .ok (.bipush 8, 2) := dk_16 8 (dk_at dksX2_said_1 10 rfl rfl)
theorem dX2_said_34 : decode cX2_said 34 = .ok (.if_icmp .ne 6, 3) := dk_160 0 6 (dk_at dksX2_said_1 12 rfl rfl)
theorem dX2_said_37 : decode cX2_said 37 = .ok (.bipush (-2), 2) := dk_16 254 (dk_at dksX2_said_1 15 rfl rfl)
theorem dX2_said_39 : decode cX2_said 39 = .ok (.ireturn, 1) := dk_172 (dk_at dksX2_said_1 17 rfl rfl)
theorem dX2_said_40 : decode cX2_said 40 = .ok (.aload_n 0, 1) := dk_42 (dk_at dksX2_said_1 18 rfl rfl)
theorem dX2_said_41 : decode cX2_said 41 = .ok (.getfield 7, 3) := dk_180 0 7 (dk_at dksX2_said_1 19 rfl rfl)
theorem dX2_said_44 : decode cX2_said 44 = .ok (.bipush 68, 2) := dk_16 68 (dk_at dksX2_said_1 22 rfl rfl)
theorem dX2_said_46 : decode cX2_said 46 = .ok (.iconst 2, 1) := dk_5 (dk_at dksX2_said_2 0 rfl rfl)
theorem dX2_said_47 : decode cX2_said 47 = .ok (.aload_n 0, 1) := dk_42 (dk_at dksX2_said_2 1 rfl rfl)
theorem dX2_said_48 : decode cX2_said 48 = .ok (.getfield 7, 3) := dk_180 0 7 (dk_at dksX2_said_2 2 rfl rfl)
theorem dX2_said_51 : decode cX2_said 51 = .ok (.bipush 6, 2) := dk_16 6 (dk_at dksX2_said_2 5 rfl rfl)
theorem dX2_said_53 : decode cX2_said 53 = .ok (.iaload, 1) := dk_46 (dk_at dksX2_said_2 7 rfl rfl)
theorem dX2_said_54 : decode cX2_said 54 = .ok (.imul, 1) := dk_104 (dk_at dksX2_said_2 8 rfl rfl)
theorem dX2_said_55 : decode cX2_said 55 = .ok (.iadd, 1) := dk_96 (dk_at dksX2_said_2 9 rfl rfl)
theorem dX2_said_56 : decode cX2_said 56 = .ok (.iload_n 1, 1) := dk_27 (dk_at dksX2_said_2 10 rfl rfl)
theorem dX2_said_57 : decode cX2_said 57 = .ok (.iastore, 1) := dk_79 (dk_at dksX2_said_2 11 rfl rfl)
theorem dX2_said_58 : decode cX2_said 58 = .ok (.aload_n 0, 1) := dk_42 (dk_at dksX2_said_2 12 rfl rfl)
theorem dX2_said_59 : decode cX2_said 59 = .ok (.getfield 7, 3) := dk_180 0 7 (dk_at dksX2_said_2 13 rfl rfl)
theorem dX2_said_62 : decode cX2_said 62 = .ok (.bipush 68, 2) := dk_16 68 (dk_at dksX2_said_2 16 rfl rfl)
theorem dX2_said_64 : decode cX2_said 64 = .ok (.iconst 2, 1) := dk_5 (dk_at dksX2_said_2 18 rfl rfl)
theorem dX2_said_65 : decode cX2_said 65 = .ok (.aload_n 0, 1) := dk_42 (dk_at dksX2_said_2 19 rfl rfl)
theorem dX2_said_66 : decode cX2_said 66 = .ok (.getfield 7, 3) := dk_180 0 7 (dk_at dksX2_said_2 20 rfl rfl)
theorem dX2_said_69 : decode cX2_said 69 = .ok (.bipush 6, 2) := dk_16 6 (dk_at dksX2_said_3 0 rfl rfl)
theorem dX2_said_71 : decode cX2_said 71 = .ok (.iaload, 1) := dk_46 (dk_at dksX2_said_3 2 rfl rfl)
theorem dX2_said_72 : decode cX2_said 72 = .ok (.imul, 1) := dk_104 (dk_at dksX2_said_3 3 rfl rfl)
theorem dX2_said_73 : decode cX2_said 73 = .ok (.iadd, 1) := dk_96 (dk_at dksX2_said_3 4 rfl rfl)
theorem dX2_said_74 : decode cX2_said 74 = .ok (.iconst 1, 1) := dk_4 (dk_at dksX2_said_3 5 rfl rfl)
theorem dX2_said_75 : decode cX2_said 75 = .ok (.iadd, 1) := dk_96 (dk_at dksX2_said_3 6 rfl rfl)
theorem dX2_said_76 : decode cX2_said 76 = .ok (.iload_n 2, 1) := dk_28 (dk_at dksX2_said_3 7 rfl rfl)
theorem dX2_said_77 : decode cX2_said 77 = .ok (.ifCond .eq 7, 3) := dk_153 0 7 (dk_at dksX2_said_3 8 rfl rfl)
theorem dX2_said_80 : decode cX2_said 80 = .ok (.iconst 1, 1) := dk_4 (dk_at dksX2_said_3 11 rfl rfl)
theorem dX2_said_81 : decode cX2_said 81 = .ok (.goto 4, 3) := dk_167 0 4 (dk_at dksX2_said_3 12 rfl rfl)
theorem dX2_said_84 : decode cX2_said 84 = .ok (.iconst 0, 1) := dk_3 (dk_at dksX2_said_3 15 rfl rfl)
theorem dX2_said_85 : decode cX2_said 85 = .ok (.iastore, 1) := dk_79 (dk_at dksX2_said_3 16 rfl rfl)
theorem dX2_said_86 : decode cX2_said 86 = .ok (.aload_n 0, 1) := dk_42 (dk_at dksX2_said_3 17 rfl rfl)
theorem dX2_said_87 : decode cX2_said 87 = .ok (.getfield 7, 3) := dk_180 0 7 (dk_at dksX2_said_3 18 rfl rfl)
theorem dX2_said_90 : decode cX2_said 90 = .ok (.bipush 6, 2) := dk_16 6 (dk_at dksX2_said_3 21 rfl rfl)
theorem dX2_said_92 : decode cX2_said 92 = .ok (.dup2, 1) := dk_92 (dk_at dksX2_said_3 23 rfl rfl)
theorem dX2_said_93 : decode cX2_said 93 = .ok (.iaload, 1) := dk_46 (dk_at dksX2_said_4 0 rfl rfl)
theorem dX2_said_94 : decode cX2_said 94 = .ok (.iconst 1, 1) := dk_4 (dk_at dksX2_said_4 1 rfl rfl)
theorem dX2_said_95 : decode cX2_said 95 = .ok (.iadd, 1) := dk_96 (dk_at dksX2_said_4 2 rfl rfl)
theorem dX2_said_96 : decode cX2_said 96 = .ok (.iastore, 1) := dk_79 (dk_at dksX2_said_4 3 rfl rfl)
theorem dX2_said_97 : decode cX2_said 97 = .ok (.aload_n 0, 1) := dk_42 (dk_at dksX2_said_4 4 rfl rfl)
theorem dX2_said_98 : decode cX2_said 98 = .ok (.getfield 7, 3) := dk_180 0 7 (dk_at dksX2_said_4 5 rfl rfl)
theorem dX2_said_101 : decode cX2_said 101 = .ok (.bipush 6, 2) := dk_16 6 (dk_at dksX2_said_4 8 rfl rfl)
theorem dX2_said_103 : decode cX2_said 103 = .ok (.iaload, 1) := dk_46 (dk_at dksX2_said_4 10 rfl rfl)
theorem dX2_said_104 : decode cX2_said 104 = .ok (.ireturn, 1) := dk_172 (dk_at dksX2_said_4 11 rfl rfl)
abbrev cX2_left : ByteArray := prog_19_method_133_code
def yX2_left : MethodName := ⟨RX2, "left", "(Z)J"⟩
def dkwX2_left_6 : List UInt8 := [22, 4, 97, 184, 1, 143, 109, 173]
abbrev dktX2_left_6 : List UInt8 := dkwX2_left_6 ++ []
def dkwX2_left_5 : List UInt8 := [153, 0, 7, 10, 167, 0, 4, 9, 173, 27, 153, 0, 10, 32, 22, 4, 97, 167, 0, 4, 32, 32, 32]
abbrev dktX2_left_5 : List UInt8 := dkwX2_left_5 ++ dktX2_left_6
def dkwX2_left_4 : List UInt8 := [21, 7, 133, 105, 55, 4, 132, 6, 1, 167, 255, 160, 32, 22, 4, 97, 9, 148, 154, 0, 13, 27]
abbrev dktX2_left_4 : List UInt8 := dkwX2_left_4 ++ dktX2_left_5
def dkwX2_left_3 : List UInt8 := [16, 10, 21, 7, 100, 133, 105, 65, 22, 4, 21, 8, 153, 0, 12, 16, 10, 21, 7, 100, 133, 167, 0, 6]
abbrev dktX2_left_3 : List UInt8 := dkwX2_left_3 ++ dktX2_left_4
def dkwX2_left_2 : List UInt8 := [4, 160, 0, 7, 4, 167, 0, 4, 3, 54, 8, 32, 21, 8, 153, 0, 9, 21, 7, 133, 167, 0, 9]
abbrev dktX2_left_2 : List UInt8 := dkwX2_left_2 ++ dktX2_left_3
def dkwX2_left_1 : List UInt8 := [16, 68, 5, 21, 6, 104, 96, 46, 54, 7, 42, 180, 0, 7, 16, 68, 5, 21, 6, 104, 96, 4, 96, 46]
abbrev dktX2_left_1 : List UInt8 := dkwX2_left_1 ++ dktX2_left_2
def dkwX2_left_0 : List UInt8 := [10, 65, 10, 55, 4, 3, 54, 6, 21, 6, 42, 180, 0, 7, 16, 6, 46, 162, 0, 90, 42, 180, 0, 7]
abbrev dktX2_left_0 : List UInt8 := dkwX2_left_0 ++ dktX2_left_1
theorem dksX2_left_0 : cX2_left.data.toList.drop 0 = dktX2_left_0 := by decide +kernel
theorem dksX2_left_1 : cX2_left.data.toList.drop 24 = dktX2_left_1 := dk_seg dksX2_left_0 24 rfl rfl
theorem dksX2_left_2 : cX2_left.data.toList.drop 48 = dktX2_left_2 := dk_seg dksX2_left_1 24 rfl rfl
theorem dksX2_left_3 : cX2_left.data.toList.drop 71 = dktX2_left_3 := dk_seg dksX2_left_2 23 rfl rfl
theorem dksX2_left_4 : cX2_left.data.toList.drop 95 = dktX2_left_4 := dk_seg dksX2_left_3 24 rfl rfl
theorem dksX2_left_5 : cX2_left.data.toList.drop 117 = dktX2_left_5 := dk_seg dksX2_left_4 22 rfl rfl
theorem dksX2_left_6 : cX2_left.data.toList.drop 140 = dktX2_left_6 := dk_seg dksX2_left_5 23 rfl rfl
theorem dX2_left_0 : decode cX2_left 0 = .ok (.lconst 1, 1) := dk_10 (dk_at dksX2_left_0 0 rfl rfl)
theorem dX2_left_1 : decode cX2_left 1 = .ok (.lstore_n 2, 1) := dk_65 (dk_at dksX2_left_0 1 rfl rfl)
theorem dX2_left_2 : decode cX2_left 2 = .ok (.lconst 1, 1) := dk_10 (dk_at dksX2_left_0 2 rfl rfl)
theorem dX2_left_3 : decode cX2_left 3 = .ok (.lstore 4, 2) := dk_55 4 (dk_at dksX2_left_0 3 rfl rfl)
theorem dX2_left_5 : decode cX2_left 5 = .ok (.iconst 0, 1) := dk_3 (dk_at dksX2_left_0 5 rfl rfl)
theorem dX2_left_6 : decode cX2_left 6 = .ok (.istore 6, 2) := dk_54 6 (dk_at dksX2_left_0 6 rfl rfl)
theorem dX2_left_8 : decode cX2_left 8 = .ok (.iload 6, 2) := dk_21 6 (dk_at dksX2_left_0 8 rfl rfl)
theorem dX2_left_10 : decode cX2_left 10 = .ok (.aload_n 0, 1) := dk_42 (dk_at dksX2_left_0 10 rfl rfl)
theorem dX2_left_11 : decode cX2_left 11 = .ok (.getfield 7, 3) := dk_180 0 7 (dk_at dksX2_left_0 11 rfl rfl)
theorem dX2_left_14 : decode cX2_left 14 = .ok (.bipush 6, 2) := dk_16 6 (dk_at dksX2_left_0 14 rfl rfl)
theorem dX2_left_16 : decode cX2_left 16 = .ok (.iaload, 1) := dk_46 (dk_at dksX2_left_0 16 rfl rfl)
theorem dX2_left_17 : decode cX2_left 17 = .ok (.if_icmp .ge 90, 3) := dk_162 0 90 (dk_at dksX2_left_0 17 rfl rfl)
theorem dX2_left_20 : decode cX2_left 20 = .ok (.aload_n 0, 1) := dk_42 (dk_at dksX2_left_0 20 rfl rfl)
theorem dX2_left_21 : decode cX2_left 21 = .ok (.getfield 7, 3) := dk_180 0 7 (dk_at dksX2_left_0 21 rfl rfl)
theorem dX2_left_24 : decode cX2_left 24 = .ok (.bipush 68, 2) := dk_16 68 (dk_at dksX2_left_1 0 rfl rfl)
theorem dX2_left_26 : decode cX2_left 26 = .ok (.iconst 2, 1) := dk_5 (dk_at dksX2_left_1 2 rfl rfl)
theorem dX2_left_27 : decode cX2_left 27 = .ok (.iload 6, 2) := dk_21 6 (dk_at dksX2_left_1 3 rfl rfl)
theorem dX2_left_29 : decode cX2_left 29 = .ok (.imul, 1) := dk_104 (dk_at dksX2_left_1 5 rfl rfl)
theorem dX2_left_30 : decode cX2_left 30 = .ok (.iadd, 1) := dk_96 (dk_at dksX2_left_1 6 rfl rfl)
theorem dX2_left_31 : decode cX2_left 31 = .ok (.iaload, 1) := dk_46 (dk_at dksX2_left_1 7 rfl rfl)
theorem dX2_left_32 : decode cX2_left 32 = .ok (.istore 7, 2) := dk_54 7 (dk_at dksX2_left_1 8 rfl rfl)
theorem dX2_left_34 : decode cX2_left 34 = .ok (.aload_n 0, 1) := dk_42 (dk_at dksX2_left_1 10 rfl rfl)
theorem dX2_left_35 : decode cX2_left 35 = .ok (.getfield 7, 3) := dk_180 0 7 (dk_at dksX2_left_1 11 rfl rfl)
theorem dX2_left_38 : decode cX2_left 38 = .ok (.bipush 68, 2) := dk_16 68 (dk_at dksX2_left_1 14 rfl rfl)
theorem dX2_left_40 : decode cX2_left 40 = .ok (.iconst 2, 1) := dk_5 (dk_at dksX2_left_1 16 rfl rfl)
theorem dX2_left_41 : decode cX2_left 41 = .ok (.iload 6, 2) := dk_21 6 (dk_at dksX2_left_1 17 rfl rfl)
theorem dX2_left_43 : decode cX2_left 43 = .ok (.imul, 1) := dk_104 (dk_at dksX2_left_1 19 rfl rfl)
theorem dX2_left_44 : decode cX2_left 44 = .ok (.iadd, 1) := dk_96 (dk_at dksX2_left_1 20 rfl rfl)
theorem dX2_left_45 : decode cX2_left 45 = .ok (.iconst 1, 1) := dk_4 (dk_at dksX2_left_1 21 rfl rfl)
theorem dX2_left_46 : decode cX2_left 46 = .ok (.iadd, 1) := dk_96 (dk_at dksX2_left_1 22 rfl rfl)
theorem dX2_left_47 : decode cX2_left 47 = .ok (.iaload, 1) := dk_46 (dk_at dksX2_left_1 23 rfl rfl)
theorem dX2_left_48 : decode cX2_left 48 = .ok (.iconst 1, 1) := dk_4 (dk_at dksX2_left_2 0 rfl rfl)
theorem dX2_left_49 : decode cX2_left 49 = .ok (.if_icmp .ne 7, 3) := dk_160 0 7 (dk_at dksX2_left_2 1 rfl rfl)
theorem dX2_left_52 : decode cX2_left 52 = .ok (.iconst 1, 1) := dk_4 (dk_at dksX2_left_2 4 rfl rfl)
theorem dX2_left_53 : decode cX2_left 53 = .ok (.goto 4, 3) := dk_167 0 4 (dk_at dksX2_left_2 5 rfl rfl)
theorem dX2_left_56 : decode cX2_left 56 = .ok (.iconst 0, 1) := dk_3 (dk_at dksX2_left_2 8 rfl rfl)
theorem dX2_left_57 : decode cX2_left 57 = .ok (.istore 8, 2) := dk_54 8 (dk_at dksX2_left_2 9 rfl rfl)
theorem dX2_left_59 : decode cX2_left 59 = .ok (.lload_n 2, 1) := dk_32 (dk_at dksX2_left_2 11 rfl rfl)
theorem dX2_left_60 : decode cX2_left 60 = .ok (.iload 8, 2) := dk_21 8 (dk_at dksX2_left_2 12 rfl rfl)
theorem dX2_left_62 : decode cX2_left 62 = .ok (.ifCond .eq 9, 3) := dk_153 0 9 (dk_at dksX2_left_2 14 rfl rfl)
theorem dX2_left_65 : decode cX2_left 65 = .ok (.iload 7, 2) := dk_21 7 (dk_at dksX2_left_2 17 rfl rfl)
theorem dX2_left_67 : decode cX2_left 67 = .ok (.i2l, 1) := dk_133 (dk_at dksX2_left_2 19 rfl rfl)
theorem dX2_left_68 : decode cX2_left 68 = .ok (.goto 9, 3) := dk_167 0 9 (dk_at dksX2_left_2 20 rfl rfl)
theorem dX2_left_71 : decode cX2_left 71 = .ok (.bipush 10, 2) := dk_16 10 (dk_at dksX2_left_3 0 rfl rfl)
theorem dX2_left_73 : decode cX2_left 73 = .ok (.iload 7, 2) := dk_21 7 (dk_at dksX2_left_3 2 rfl rfl)
theorem dX2_left_75 : decode cX2_left 75 = .ok (.isub, 1) := dk_100 (dk_at dksX2_left_3 4 rfl rfl)
theorem dX2_left_76 : decode cX2_left 76 = .ok (.i2l, 1) := dk_133 (dk_at dksX2_left_3 5 rfl rfl)
theorem dX2_left_77 : decode cX2_left 77 = .ok (.lmul, 1) := dk_105 (dk_at dksX2_left_3 6 rfl rfl)
theorem dX2_left_78 : decode cX2_left 78 = .ok (.lstore_n 2, 1) := dk_65 (dk_at dksX2_left_3 7 rfl rfl)
theorem dX2_left_79 : decode cX2_left 79 = .ok (.lload 4, 2) := dk_22 4 (dk_at dksX2_left_3 8 rfl rfl)
theorem dX2_left_81 : decode cX2_left 81 = .ok (.iload 8, 2) := dk_21 8 (dk_at dksX2_left_3 10 rfl rfl)
theorem dX2_left_83 : decode cX2_left 83 = .ok (.ifCond .eq 12, 3) := dk_153 0 12 (dk_at dksX2_left_3 12 rfl rfl)
theorem dX2_left_86 : decode cX2_left 86 = .ok (.bipush 10, 2) := dk_16 10 (dk_at dksX2_left_3 15 rfl rfl)
theorem dX2_left_88 : decode cX2_left 88 = .ok (.iload 7, 2) := dk_21 7 (dk_at dksX2_left_3 17 rfl rfl)
theorem dX2_left_90 : decode cX2_left 90 = .ok (.isub, 1) := dk_100 (dk_at dksX2_left_3 19 rfl rfl)
theorem dX2_left_91 : decode cX2_left 91 = .ok (.i2l, 1) := dk_133 (dk_at dksX2_left_3 20 rfl rfl)
theorem dX2_left_92 : decode cX2_left 92 = .ok (.goto 6, 3) := dk_167 0 6 (dk_at dksX2_left_3 21 rfl rfl)
theorem dX2_left_95 : decode cX2_left 95 = .ok (.iload 7, 2) := dk_21 7 (dk_at dksX2_left_4 0 rfl rfl)
theorem dX2_left_97 : decode cX2_left 97 = .ok (.i2l, 1) := dk_133 (dk_at dksX2_left_4 2 rfl rfl)
theorem dX2_left_98 : decode cX2_left 98 = .ok (.lmul, 1) := dk_105 (dk_at dksX2_left_4 3 rfl rfl)
theorem dX2_left_99 : decode cX2_left 99 = .ok (.lstore 4, 2) := dk_55 4 (dk_at dksX2_left_4 4 rfl rfl)
theorem dX2_left_101 : decode cX2_left 101 = .ok (.iinc 6 1, 3) := dk_132 6 1 (dk_at dksX2_left_4 6 rfl rfl)
theorem dX2_left_104 : decode cX2_left 104 = .ok (.goto (-96), 3) := dk_167 255 160 (dk_at dksX2_left_4 9 rfl rfl)
theorem dX2_left_107 : decode cX2_left 107 = .ok (.lload_n 2, 1) := dk_32 (dk_at dksX2_left_4 12 rfl rfl)
theorem dX2_left_108 : decode cX2_left 108 = .ok (.lload 4, 2) := dk_22 4 (dk_at dksX2_left_4 13 rfl rfl)
theorem dX2_left_110 : decode cX2_left 110 = .ok (.ladd, 1) := dk_97 (dk_at dksX2_left_4 15 rfl rfl)
theorem dX2_left_111 : decode cX2_left 111 = .ok (.lconst 0, 1) := dk_9 (dk_at dksX2_left_4 16 rfl rfl)
theorem dX2_left_112 : decode cX2_left 112 = .ok (.lcmp, 1) := dk_148 (dk_at dksX2_left_4 17 rfl rfl)
theorem dX2_left_113 : decode cX2_left 113 = .ok (.ifCond .ne 13, 3) := dk_154 0 13 (dk_at dksX2_left_4 18 rfl rfl)
theorem dX2_left_116 : decode cX2_left 116 = .ok (.iload_n 1, 1) := dk_27 (dk_at dksX2_left_4 21 rfl rfl)
theorem dX2_left_117 : decode cX2_left 117 = .ok (.ifCond .eq 7, 3) := dk_153 0 7 (dk_at dksX2_left_5 0 rfl rfl)
theorem dX2_left_120 : decode cX2_left 120 = .ok (.lconst 1, 1) := dk_10 (dk_at dksX2_left_5 3 rfl rfl)
theorem dX2_left_121 : decode cX2_left 121 = .ok (.goto 4, 3) := dk_167 0 4 (dk_at dksX2_left_5 4 rfl rfl)
theorem dX2_left_124 : decode cX2_left 124 = .ok (.lconst 0, 1) := dk_9 (dk_at dksX2_left_5 7 rfl rfl)
theorem dX2_left_125 : decode cX2_left 125 = .ok (.lreturn, 1) := dk_173 (dk_at dksX2_left_5 8 rfl rfl)
theorem dX2_left_126 : decode cX2_left 126 = .ok (.iload_n 1, 1) := dk_27 (dk_at dksX2_left_5 9 rfl rfl)
theorem dX2_left_127 : decode cX2_left 127 = .ok (.ifCond .eq 10, 3) := dk_153 0 10 (dk_at dksX2_left_5 10 rfl rfl)
theorem dX2_left_130 : decode cX2_left 130 = .ok (.lload_n 2, 1) := dk_32 (dk_at dksX2_left_5 13 rfl rfl)
theorem dX2_left_131 : decode cX2_left 131 = .ok (.lload 4, 2) := dk_22 4 (dk_at dksX2_left_5 14 rfl rfl)
theorem dX2_left_133 : decode cX2_left 133 = .ok (.ladd, 1) := dk_97 (dk_at dksX2_left_5 16 rfl rfl)
theorem dX2_left_134 : decode cX2_left 134 = .ok (.goto 4, 3) := dk_167 0 4 (dk_at dksX2_left_5 17 rfl rfl)
theorem dX2_left_137 : decode cX2_left 137 = .ok (.lload_n 2, 1) := dk_32 (dk_at dksX2_left_5 20 rfl rfl)
theorem dX2_left_138 : decode cX2_left 138 = .ok (.lload_n 2, 1) := dk_32 (dk_at dksX2_left_5 21 rfl rfl)
theorem dX2_left_139 : decode cX2_left 139 = .ok (.lload_n 2, 1) := dk_32 (dk_at dksX2_left_5 22 rfl rfl)
theorem dX2_left_140 : decode cX2_left 140 = .ok (.lload 4, 2) := dk_22 4 (dk_at dksX2_left_6 0 rfl rfl)
theorem dX2_left_142 : decode cX2_left 142 = .ok (.ladd, 1) := dk_97 (dk_at dksX2_left_6 2 rfl rfl)
theorem dX2_left_143 : decode cX2_left 143 = .ok (.invokestatic 399, 3) := dk_184 1 143 (dk_at dksX2_left_6 3 rfl rfl)
theorem dX2_left_146 : decode cX2_left 146 = .ok (.ldiv, 1) := dk_109 (dk_at dksX2_left_6 6 rfl rfl)
theorem dX2_left_147 : decode cX2_left 147 = .ok (.lreturn, 1) := dk_173 (dk_at dksX2_left_6 7 rfl rfl)
abbrev cX2_landed : ByteArray := prog_19_method_136_code
def yX2_landed : MethodName := ⟨RX2, "landed", "(II)I"⟩
def dkwX2_landed_1 : List UInt8 := [28, 3, 4, 184, 0, 71, 153, 0, 12, 42, 27, 28, 182, 1, 210, 167, 0, 5, 16, 254, 172]
abbrev dktX2_landed_1 : List UInt8 := dkwX2_landed_1 ++ []
def dkwX2_landed_0 : List UInt8 := [27, 2, 160, 0, 8, 42, 182, 1, 207, 172, 27, 3, 42, 182, 1, 207, 4, 100, 184, 0, 71, 153, 0, 21]
abbrev dktX2_landed_0 : List UInt8 := dkwX2_landed_0 ++ dktX2_landed_1
theorem dksX2_landed_0 : cX2_landed.data.toList.drop 0 = dktX2_landed_0 := by decide +kernel
theorem dksX2_landed_1 : cX2_landed.data.toList.drop 24 = dktX2_landed_1 := dk_seg dksX2_landed_0 24 rfl rfl
theorem dX2_landed_0 : decode cX2_landed 0 = .ok (.iload_n 1, 1) := dk_27 (dk_at dksX2_landed_0 0 rfl rfl)
theorem dX2_landed_1 : decode cX2_landed 1 = .ok (.iconst (-1), 1) := dk_2 (dk_at dksX2_landed_0 1 rfl rfl)
theorem dX2_landed_2 : decode cX2_landed 2 = .ok (.if_icmp .ne 8, 3) := dk_160 0 8 (dk_at dksX2_landed_0 2 rfl rfl)
theorem dX2_landed_5 : decode cX2_landed 5 = .ok (.aload_n 0, 1) := dk_42 (dk_at dksX2_landed_0 5 rfl rfl)
theorem dX2_landed_6 : decode cX2_landed 6 = .ok (.invokevirtual 463, 3) := dk_182 1 207 (dk_at dksX2_landed_0 6 rfl rfl)
theorem dX2_landed_9 : decode cX2_landed 9 = .ok (.ireturn, 1) := dk_172 (dk_at dksX2_landed_0 9 rfl rfl)
theorem dX2_landed_10 : decode cX2_landed 10 = .ok (.iload_n 1, 1) := dk_27 (dk_at dksX2_landed_0 10 rfl rfl)
theorem dX2_landed_11 : decode cX2_landed 11 = .ok (.iconst 0, 1) := dk_3 (dk_at dksX2_landed_0 11 rfl rfl)
theorem dX2_landed_12 : decode cX2_landed 12 = .ok (.aload_n 0, 1) := dk_42 (dk_at dksX2_landed_0 12 rfl rfl)
theorem dX2_landed_13 : decode cX2_landed 13 = .ok (.invokevirtual 463, 3) := dk_182 1 207 (dk_at dksX2_landed_0 13 rfl rfl)
theorem dX2_landed_16 : decode cX2_landed 16 = .ok (.iconst 1, 1) := dk_4 (dk_at dksX2_landed_0 16 rfl rfl)
theorem dX2_landed_17 : decode cX2_landed 17 = .ok (.isub, 1) := dk_100 (dk_at dksX2_landed_0 17 rfl rfl)
theorem dX2_landed_18 : decode cX2_landed 18 = .ok (.invokestatic 71, 3) := dk_184 0 71 (dk_at dksX2_landed_0 18 rfl rfl)
theorem dX2_landed_21 : decode cX2_landed 21 = .ok (.ifCond .eq 21, 3) := dk_153 0 21 (dk_at dksX2_landed_0 21 rfl rfl)
theorem dX2_landed_24 : decode cX2_landed 24 = .ok (.iload_n 2, 1) := dk_28 (dk_at dksX2_landed_1 0 rfl rfl)
theorem dX2_landed_25 : decode cX2_landed 25 = .ok (.iconst 0, 1) := dk_3 (dk_at dksX2_landed_1 1 rfl rfl)
theorem dX2_landed_26 : decode cX2_landed 26 = .ok (.iconst 1, 1) := dk_4 (dk_at dksX2_landed_1 2 rfl rfl)
theorem dX2_landed_27 : decode cX2_landed 27 = .ok (.invokestatic 71, 3) := dk_184 0 71 (dk_at dksX2_landed_1 3 rfl rfl)
theorem dX2_landed_30 : decode cX2_landed 30 = .ok (.ifCond .eq 12, 3) := dk_153 0 12 (dk_at dksX2_landed_1 6 rfl rfl)
theorem dX2_landed_33 : decode cX2_landed 33 = .ok (.aload_n 0, 1) := dk_42 (dk_at dksX2_landed_1 9 rfl rfl)
theorem dX2_landed_34 : decode cX2_landed 34 = .ok (.iload_n 1, 1) := dk_27 (dk_at dksX2_landed_1 10 rfl rfl)
theorem dX2_landed_35 : decode cX2_landed 35 = .ok (.iload_n 2, 1) := dk_28 (dk_at dksX2_landed_1 11 rfl rfl)
theorem dX2_landed_36 : decode cX2_landed 36 = .ok (.invokevirtual 466, 3) := dk_182 1 210 (dk_at dksX2_landed_1 12 rfl rfl)
theorem dX2_landed_39 : decode cX2_landed 39 = .ok (.goto 5, 3) := dk_167 0 5 (dk_at dksX2_landed_1 15 rfl rfl)
theorem dX2_landed_42 : decode cX2_landed 42 = .ok (.bipush (-2), 2) := dk_16 254 (dk_at dksX2_landed_1 18 rfl rfl)
theorem dX2_landed_44 : decode cX2_landed 44 = .ok (.ireturn, 1) := dk_172 (dk_at dksX2_landed_1 20 rfl rfl)
abbrev cX2_shown : ByteArray := prog_19_method_134_code
def yX2_shown : MethodName := ⟨RX2, "shown", "()I"⟩
def dkwX2_shown_1 : List UInt8 := [172]
abbrev dktX2_shown_1 : List UInt8 := dkwX2_shown_1 ++ []
def dkwX2_shown_0 : List UInt8 := [42, 180, 0, 7, 16, 7, 46, 16, 20, 162, 0, 13, 42, 180, 0, 7, 16, 7, 46, 167, 0, 5, 16, 20]
abbrev dktX2_shown_0 : List UInt8 := dkwX2_shown_0 ++ dktX2_shown_1
theorem dksX2_shown_0 : cX2_shown.data.toList.drop 0 = dktX2_shown_0 := by decide +kernel
theorem dksX2_shown_1 : cX2_shown.data.toList.drop 24 = dktX2_shown_1 := dk_seg dksX2_shown_0 24 rfl rfl
theorem dX2_shown_0 : decode cX2_shown 0 = .ok (.aload_n 0, 1) := dk_42 (dk_at dksX2_shown_0 0 rfl rfl)
theorem dX2_shown_1 : decode cX2_shown 1 = .ok (.getfield 7, 3) := dk_180 0 7 (dk_at dksX2_shown_0 1 rfl rfl)
theorem dX2_shown_4 : decode cX2_shown 4 = .ok (.bipush 7, 2) := dk_16 7 (dk_at dksX2_shown_0 4 rfl rfl)
theorem dX2_shown_6 : decode cX2_shown 6 = .ok (.iaload, 1) := dk_46 (dk_at dksX2_shown_0 6 rfl rfl)
theorem dX2_shown_7 : decode cX2_shown 7 = .ok (.bipush 20, 2) := dk_16 20 (dk_at dksX2_shown_0 7 rfl rfl)
theorem dX2_shown_9 : decode cX2_shown 9 = .ok (.if_icmp .ge 13, 3) := dk_162 0 13 (dk_at dksX2_shown_0 9 rfl rfl)
theorem dX2_shown_12 : decode cX2_shown 12 = .ok (.aload_n 0, 1) := dk_42 (dk_at dksX2_shown_0 12 rfl rfl)
theorem dX2_shown_13 : decode cX2_shown 13 = .ok (.getfield 7, 3) := dk_180 0 7 (dk_at dksX2_shown_0 13 rfl rfl)
theorem dX2_shown_16 : decode cX2_shown 16 = .ok (.bipush 7, 2) := dk_16 7 (dk_at dksX2_shown_0 16 rfl rfl)
theorem dX2_shown_18 : decode cX2_shown 18 = .ok (.iaload, 1) := dk_46 (dk_at dksX2_shown_0 18 rfl rfl)
theorem dX2_shown_19 : decode cX2_shown 19 = .ok (.goto 5, 3) := dk_167 0 5 (dk_at dksX2_shown_0 19 rfl rfl)
theorem dX2_shown_22 : decode cX2_shown 22 = .ok (.bipush 20, 2) := dk_16 20 (dk_at dksX2_shown_0 22 rfl rfl)
theorem dX2_shown_24 : decode cX2_shown 24 = .ok (.ireturn, 1) := dk_172 (dk_at dksX2_shown_1 0 rfl rfl)
abbrev cX2_downOf : ByteArray := prog_19_method_135_code
def yX2_downOf : MethodName := ⟨RX2, "downOf", "(II)I"⟩
def dkwX2_downOf_1 : List UInt8 := [112, 104, 96, 28, 96, 46, 172]
abbrev dktX2_downOf_1 : List UInt8 := dkwX2_downOf_1 ++ []
def dkwX2_downOf_0 : List UInt8 := [42, 180, 0, 7, 17, 1, 218, 5, 42, 180, 0, 7, 16, 7, 46, 42, 182, 1, 207, 100, 27, 96, 16, 64]
abbrev dktX2_downOf_0 : List UInt8 := dkwX2_downOf_0 ++ dktX2_downOf_1
theorem dksX2_downOf_0 : cX2_downOf.data.toList.drop 0 = dktX2_downOf_0 := by decide +kernel
theorem dksX2_downOf_1 : cX2_downOf.data.toList.drop 24 = dktX2_downOf_1 := dk_seg dksX2_downOf_0 24 rfl rfl
theorem dX2_downOf_0 : decode cX2_downOf 0 = .ok (.aload_n 0, 1) := dk_42 (dk_at dksX2_downOf_0 0 rfl rfl)
theorem dX2_downOf_1 : decode cX2_downOf 1 = .ok (.getfield 7, 3) := dk_180 0 7 (dk_at dksX2_downOf_0 1 rfl rfl)
theorem dX2_downOf_4 : decode cX2_downOf 4 = .ok (.sipush 474, 3) := dk_17 1 218 (dk_at dksX2_downOf_0 4 rfl rfl)
theorem dX2_downOf_7 : decode cX2_downOf 7 = .ok (.iconst 2, 1) := dk_5 (dk_at dksX2_downOf_0 7 rfl rfl)
theorem dX2_downOf_8 : decode cX2_downOf 8 = .ok (.aload_n 0, 1) := dk_42 (dk_at dksX2_downOf_0 8 rfl rfl)
theorem dX2_downOf_9 : decode cX2_downOf 9 = .ok (.getfield 7, 3) := dk_180 0 7 (dk_at dksX2_downOf_0 9 rfl rfl)
theorem dX2_downOf_12 : decode cX2_downOf 12 = .ok (.bipush 7, 2) := dk_16 7 (dk_at dksX2_downOf_0 12 rfl rfl)
theorem dX2_downOf_14 : decode cX2_downOf 14 = .ok (.iaload, 1) := dk_46 (dk_at dksX2_downOf_0 14 rfl rfl)
theorem dX2_downOf_15 : decode cX2_downOf 15 = .ok (.aload_n 0, 1) := dk_42 (dk_at dksX2_downOf_0 15 rfl rfl)
theorem dX2_downOf_16 : decode cX2_downOf 16 = .ok (.invokevirtual 463, 3) := dk_182 1 207 (dk_at dksX2_downOf_0 16 rfl rfl)
theorem dX2_downOf_19 : decode cX2_downOf 19 = .ok (.isub, 1) := dk_100 (dk_at dksX2_downOf_0 19 rfl rfl)
theorem dX2_downOf_20 : decode cX2_downOf 20 = .ok (.iload_n 1, 1) := dk_27 (dk_at dksX2_downOf_0 20 rfl rfl)
theorem dX2_downOf_21 : decode cX2_downOf 21 = .ok (.iadd, 1) := dk_96 (dk_at dksX2_downOf_0 21 rfl rfl)
theorem dX2_downOf_22 : decode cX2_downOf 22 = .ok (.bipush 64, 2) := dk_16 64 (dk_at dksX2_downOf_0 22 rfl rfl)
theorem dX2_downOf_24 : decode cX2_downOf 24 = .ok (.irem, 1) := dk_112 (dk_at dksX2_downOf_1 0 rfl rfl)
theorem dX2_downOf_25 : decode cX2_downOf 25 = .ok (.imul, 1) := dk_104 (dk_at dksX2_downOf_1 1 rfl rfl)
theorem dX2_downOf_26 : decode cX2_downOf 26 = .ok (.iadd, 1) := dk_96 (dk_at dksX2_downOf_1 2 rfl rfl)
theorem dX2_downOf_27 : decode cX2_downOf 27 = .ok (.iload_n 2, 1) := dk_28 (dk_at dksX2_downOf_1 3 rfl rfl)
theorem dX2_downOf_28 : decode cX2_downOf 28 = .ok (.iadd, 1) := dk_96 (dk_at dksX2_downOf_1 4 rfl rfl)
theorem dX2_downOf_29 : decode cX2_downOf 29 = .ok (.iaload, 1) := dk_46 (dk_at dksX2_downOf_1 5 rfl rfl)
theorem dX2_downOf_30 : decode cX2_downOf 30 = .ok (.ireturn, 1) := dk_172 (dk_at dksX2_downOf_1 6 rfl rfl)
abbrev cX2_hour : ByteArray := prog_19_method_137_code
def yX2_hour : MethodName := ⟨RX2, "hour", "(I)I"⟩
def dkwX2_hour_2 : List UInt8 := [167, 0, 4, 3, 96, 61, 132, 3, 1, 167, 255, 219, 28, 172]
abbrev dktX2_hour_2 : List UInt8 := dkwX2_hour_2 ++ []
def dkwX2_hour_1 : List UInt8 := [162, 0, 35, 28, 42, 29, 4, 182, 1, 210, 42, 180, 0, 7, 16, 16, 46, 27, 100, 164, 0, 7, 4]
abbrev dktX2_hour_1 : List UInt8 := dkwX2_hour_1 ++ dktX2_hour_2
def dkwX2_hour_0 : List UInt8 := [27, 4, 17, 39, 15, 184, 0, 71, 154, 0, 5, 2, 172, 3, 61, 3, 62, 29, 42, 182, 1, 207]
abbrev dktX2_hour_0 : List UInt8 := dkwX2_hour_0 ++ dktX2_hour_1
theorem dksX2_hour_0 : cX2_hour.data.toList.drop 0 = dktX2_hour_0 := by decide +kernel
theorem dksX2_hour_1 : cX2_hour.data.toList.drop 22 = dktX2_hour_1 := dk_seg dksX2_hour_0 22 rfl rfl
theorem dksX2_hour_2 : cX2_hour.data.toList.drop 45 = dktX2_hour_2 := dk_seg dksX2_hour_1 23 rfl rfl
theorem dX2_hour_0 : decode cX2_hour 0 = .ok (.iload_n 1, 1) := dk_27 (dk_at dksX2_hour_0 0 rfl rfl)
theorem dX2_hour_1 : decode cX2_hour 1 = .ok (.iconst 1, 1) := dk_4 (dk_at dksX2_hour_0 1 rfl rfl)
theorem dX2_hour_2 : decode cX2_hour 2 = .ok (.sipush 9999, 3) := dk_17 39 15 (dk_at dksX2_hour_0 2 rfl rfl)
theorem dX2_hour_5 : decode cX2_hour 5 = .ok (.invokestatic 71, 3) := dk_184 0 71 (dk_at dksX2_hour_0 5 rfl rfl)
theorem dX2_hour_8 : decode cX2_hour 8 = .ok (.ifCond .ne 5, 3) := dk_154 0 5 (dk_at dksX2_hour_0 8 rfl rfl)
theorem dX2_hour_11 : decode cX2_hour 11 = .ok (.iconst (-1), 1) := dk_2 (dk_at dksX2_hour_0 11 rfl rfl)
theorem dX2_hour_12 : decode cX2_hour 12 = .ok (.ireturn, 1) := dk_172 (dk_at dksX2_hour_0 12 rfl rfl)
theorem dX2_hour_13 : decode cX2_hour 13 = .ok (.iconst 0, 1) := dk_3 (dk_at dksX2_hour_0 13 rfl rfl)
theorem dX2_hour_14 : decode cX2_hour 14 = .ok (.istore_n 2, 1) := dk_61 (dk_at dksX2_hour_0 14 rfl rfl)
theorem dX2_hour_15 : decode cX2_hour 15 = .ok (.iconst 0, 1) := dk_3 (dk_at dksX2_hour_0 15 rfl rfl)
theorem dX2_hour_16 : decode cX2_hour 16 = .ok (.istore_n 3, 1) := dk_62 (dk_at dksX2_hour_0 16 rfl rfl)
theorem dX2_hour_17 : decode cX2_hour 17 = .ok (.iload_n 3, 1) := dk_29 (dk_at dksX2_hour_0 17 rfl rfl)
theorem dX2_hour_18 : decode cX2_hour 18 = .ok (.aload_n 0, 1) := dk_42 (dk_at dksX2_hour_0 18 rfl rfl)
theorem dX2_hour_19 : decode cX2_hour 19 = .ok (.invokevirtual 463, 3) := dk_182 1 207 (dk_at dksX2_hour_0 19 rfl rfl)
theorem dX2_hour_22 : decode cX2_hour 22 = .ok (.if_icmp .ge 35, 3) := dk_162 0 35 (dk_at dksX2_hour_1 0 rfl rfl)
theorem dX2_hour_25 : decode cX2_hour 25 = .ok (.iload_n 2, 1) := dk_28 (dk_at dksX2_hour_1 3 rfl rfl)
theorem dX2_hour_26 : decode cX2_hour 26 = .ok (.aload_n 0, 1) := dk_42 (dk_at dksX2_hour_1 4 rfl rfl)
theorem dX2_hour_27 : decode cX2_hour 27 = .ok (.iload_n 3, 1) := dk_29 (dk_at dksX2_hour_1 5 rfl rfl)
theorem dX2_hour_28 : decode cX2_hour 28 = .ok (.iconst 1, 1) := dk_4 (dk_at dksX2_hour_1 6 rfl rfl)
theorem dX2_hour_29 : decode cX2_hour 29 = .ok (.invokevirtual 466, 3) := dk_182 1 210 (dk_at dksX2_hour_1 7 rfl rfl)
theorem dX2_hour_32 : decode cX2_hour 32 = .ok (.aload_n 0, 1) := dk_42 (dk_at dksX2_hour_1 10 rfl rfl)
theorem dX2_hour_33 : decode cX2_hour 33 = .ok (.getfield 7, 3) := dk_180 0 7 (dk_at dksX2_hour_1 11 rfl rfl)
theorem dX2_hour_36 : decode cX2_hour 36 = .ok (.bipush 16, 2) := dk_16 16 (dk_at dksX2_hour_1 14 rfl rfl)
theorem dX2_hour_38 : decode cX2_hour 38 = .ok (.iaload, 1) := dk_46 (dk_at dksX2_hour_1 16 rfl rfl)
theorem dX2_hour_39 : decode cX2_hour 39 = .ok (.iload_n 1, 1) := dk_27 (dk_at dksX2_hour_1 17 rfl rfl)
theorem dX2_hour_40 : decode cX2_hour 40 = .ok (.isub, 1) := dk_100 (dk_at dksX2_hour_1 18 rfl rfl)
theorem dX2_hour_41 : decode cX2_hour 41 = .ok (.if_icmp .le 7, 3) := dk_164 0 7 (dk_at dksX2_hour_1 19 rfl rfl)
theorem dX2_hour_44 : decode cX2_hour 44 = .ok (.iconst 1, 1) := dk_4 (dk_at dksX2_hour_1 22 rfl rfl)
theorem dX2_hour_45 : decode cX2_hour 45 = .ok (.goto 4, 3) := dk_167 0 4 (dk_at dksX2_hour_2 0 rfl rfl)
theorem dX2_hour_48 : decode cX2_hour 48 = .ok (.iconst 0, 1) := dk_3 (dk_at dksX2_hour_2 3 rfl rfl)
theorem dX2_hour_49 : decode cX2_hour 49 = .ok (.iadd, 1) := dk_96 (dk_at dksX2_hour_2 4 rfl rfl)
theorem dX2_hour_50 : decode cX2_hour 50 = .ok (.istore_n 2, 1) := dk_61 (dk_at dksX2_hour_2 5 rfl rfl)
theorem dX2_hour_51 : decode cX2_hour 51 = .ok (.iinc 3 1, 3) := dk_132 3 1 (dk_at dksX2_hour_2 6 rfl rfl)
theorem dX2_hour_54 : decode cX2_hour 54 = .ok (.goto (-37), 3) := dk_167 255 219 (dk_at dksX2_hour_2 9 rfl rfl)
theorem dX2_hour_57 : decode cX2_hour 57 = .ok (.iload_n 2, 1) := dk_28 (dk_at dksX2_hour_2 12 rfl rfl)
theorem dX2_hour_58 : decode cX2_hour 58 = .ok (.ireturn, 1) := dk_172 (dk_at dksX2_hour_2 13 rfl rfl)
abbrev cX2_mean : ByteArray := prog_19_method_138_code
def yX2_mean : MethodName := ⟨RX2, "mean", "(Z)I"⟩
def dkwX2_mean_2 : List UInt8 := [172]
abbrev dktX2_mean_2 : List UInt8 := dkwX2_mean_2 ++ []
def dkwX2_mean_1 : List UInt8 := [182, 1, 210, 100, 133, 66, 27, 153, 0, 8, 28, 133, 167, 0, 4, 33, 33, 28, 133, 184, 1, 143, 109, 136]
abbrev dktX2_mean_1 : List UInt8 := dkwX2_mean_1 ++ dktX2_mean_2
def dkwX2_mean_0 : List UInt8 := [42, 182, 1, 207, 4, 100, 61, 28, 4, 162, 0, 5, 2, 172, 42, 28, 4, 182, 1, 210, 42, 3, 4]
abbrev dktX2_mean_0 : List UInt8 := dkwX2_mean_0 ++ dktX2_mean_1
theorem dksX2_mean_0 : cX2_mean.data.toList.drop 0 = dktX2_mean_0 := by decide +kernel
theorem dksX2_mean_1 : cX2_mean.data.toList.drop 23 = dktX2_mean_1 := dk_seg dksX2_mean_0 23 rfl rfl
theorem dksX2_mean_2 : cX2_mean.data.toList.drop 47 = dktX2_mean_2 := dk_seg dksX2_mean_1 24 rfl rfl
theorem dX2_mean_0 : decode cX2_mean 0 = .ok (.aload_n 0, 1) := dk_42 (dk_at dksX2_mean_0 0 rfl rfl)
theorem dX2_mean_1 : decode cX2_mean 1 = .ok (.invokevirtual 463, 3) := dk_182 1 207 (dk_at dksX2_mean_0 1 rfl rfl)
theorem dX2_mean_4 : decode cX2_mean 4 = .ok (.iconst 1, 1) := dk_4 (dk_at dksX2_mean_0 4 rfl rfl)
theorem dX2_mean_5 : decode cX2_mean 5 = .ok (.isub, 1) := dk_100 (dk_at dksX2_mean_0 5 rfl rfl)
theorem dX2_mean_6 : decode cX2_mean 6 = .ok (.istore_n 2, 1) := dk_61 (dk_at dksX2_mean_0 6 rfl rfl)
theorem dX2_mean_7 : decode cX2_mean 7 = .ok (.iload_n 2, 1) := dk_28 (dk_at dksX2_mean_0 7 rfl rfl)
theorem dX2_mean_8 : decode cX2_mean 8 = .ok (.iconst 1, 1) := dk_4 (dk_at dksX2_mean_0 8 rfl rfl)
theorem dX2_mean_9 : decode cX2_mean 9 = .ok (.if_icmp .ge 5, 3) := dk_162 0 5 (dk_at dksX2_mean_0 9 rfl rfl)
theorem dX2_mean_12 : decode cX2_mean 12 = .ok (.iconst (-1), 1) := dk_2 (dk_at dksX2_mean_0 12 rfl rfl)
theorem dX2_mean_13 : decode cX2_mean 13 = .ok (.ireturn, 1) := dk_172 (dk_at dksX2_mean_0 13 rfl rfl)
theorem dX2_mean_14 : decode cX2_mean 14 = .ok (.aload_n 0, 1) := dk_42 (dk_at dksX2_mean_0 14 rfl rfl)
theorem dX2_mean_15 : decode cX2_mean 15 = .ok (.iload_n 2, 1) := dk_28 (dk_at dksX2_mean_0 15 rfl rfl)
theorem dX2_mean_16 : decode cX2_mean 16 = .ok (.iconst 1, 1) := dk_4 (dk_at dksX2_mean_0 16 rfl rfl)
theorem dX2_mean_17 : decode cX2_mean 17 = .ok (.invokevirtual 466, 3) := dk_182 1 210 (dk_at dksX2_mean_0 17 rfl rfl)
theorem dX2_mean_20 : decode cX2_mean 20 = .ok (.aload_n 0, 1) := dk_42 (dk_at dksX2_mean_0 20 rfl rfl)
theorem dX2_mean_21 : decode cX2_mean 21 = .ok (.iconst 0, 1) := dk_3 (dk_at dksX2_mean_0 21 rfl rfl)
theorem dX2_mean_22 : decode cX2_mean 22 = .ok (.iconst 1, 1) := dk_4 (dk_at dksX2_mean_0 22 rfl rfl)
theorem dX2_mean_23 : decode cX2_mean 23 = .ok (.invokevirtual 466, 3) := dk_182 1 210 (dk_at dksX2_mean_1 0 rfl rfl)
theorem dX2_mean_26 : decode cX2_mean 26 = .ok (.isub, 1) := dk_100 (dk_at dksX2_mean_1 3 rfl rfl)
theorem dX2_mean_27 : decode cX2_mean 27 = .ok (.i2l, 1) := dk_133 (dk_at dksX2_mean_1 4 rfl rfl)
theorem dX2_mean_28 : decode cX2_mean 28 = .ok (.lstore_n 3, 1) := dk_66 (dk_at dksX2_mean_1 5 rfl rfl)
theorem dX2_mean_29 : decode cX2_mean 29 = .ok (.iload_n 1, 1) := dk_27 (dk_at dksX2_mean_1 6 rfl rfl)
theorem dX2_mean_30 : decode cX2_mean 30 = .ok (.ifCond .eq 8, 3) := dk_153 0 8 (dk_at dksX2_mean_1 7 rfl rfl)
theorem dX2_mean_33 : decode cX2_mean 33 = .ok (.iload_n 2, 1) := dk_28 (dk_at dksX2_mean_1 10 rfl rfl)
theorem dX2_mean_34 : decode cX2_mean 34 = .ok (.i2l, 1) := dk_133 (dk_at dksX2_mean_1 11 rfl rfl)
theorem dX2_mean_35 : decode cX2_mean 35 = .ok (.goto 4, 3) := dk_167 0 4 (dk_at dksX2_mean_1 12 rfl rfl)
theorem dX2_mean_38 : decode cX2_mean 38 = .ok (.lload_n 3, 1) := dk_33 (dk_at dksX2_mean_1 15 rfl rfl)
theorem dX2_mean_39 : decode cX2_mean 39 = .ok (.lload_n 3, 1) := dk_33 (dk_at dksX2_mean_1 16 rfl rfl)
theorem dX2_mean_40 : decode cX2_mean 40 = .ok (.iload_n 2, 1) := dk_28 (dk_at dksX2_mean_1 17 rfl rfl)
theorem dX2_mean_41 : decode cX2_mean 41 = .ok (.i2l, 1) := dk_133 (dk_at dksX2_mean_1 18 rfl rfl)
theorem dX2_mean_42 : decode cX2_mean 42 = .ok (.invokestatic 399, 3) := dk_184 1 143 (dk_at dksX2_mean_1 19 rfl rfl)
theorem dX2_mean_45 : decode cX2_mean 45 = .ok (.ldiv, 1) := dk_109 (dk_at dksX2_mean_1 22 rfl rfl)
theorem dX2_mean_46 : decode cX2_mean 46 = .ok (.l2i, 1) := dk_136 (dk_at dksX2_mean_1 23 rfl rfl)
theorem dX2_mean_47 : decode cX2_mean 47 = .ok (.ireturn, 1) := dk_172 (dk_at dksX2_mean_2 0 rfl rfl)
abbrev cX2_image : ByteArray := prog_19_method_139_code
def yX2_image : MethodName := ⟨RX2, "image", "()I"⟩
def dkwX2_image_0 : List UInt8 := [42, 180, 0, 7, 42, 180, 0, 13, 184, 0, 67, 42, 180, 0, 7, 16, 16, 46, 172]
abbrev dktX2_image_0 : List UInt8 := dkwX2_image_0 ++ []
theorem dksX2_image_0 : cX2_image.data.toList.drop 0 = dktX2_image_0 := by decide +kernel
theorem dX2_image_0 : decode cX2_image 0 = .ok (.aload_n 0, 1) := dk_42 (dk_at dksX2_image_0 0 rfl rfl)
theorem dX2_image_1 : decode cX2_image 1 = .ok (.getfield 7, 3) := dk_180 0 7 (dk_at dksX2_image_0 1 rfl rfl)
theorem dX2_image_4 : decode cX2_image 4 = .ok (.aload_n 0, 1) := dk_42 (dk_at dksX2_image_0 4 rfl rfl)
theorem dX2_image_5 : decode cX2_image 5 = .ok (.getfield 13, 3) := dk_180 0 13 (dk_at dksX2_image_0 5 rfl rfl)
theorem dX2_image_8 : decode cX2_image 8 = .ok (.invokestatic 67, 3) := dk_184 0 67 (dk_at dksX2_image_0 8 rfl rfl)
theorem dX2_image_11 : decode cX2_image 11 = .ok (.aload_n 0, 1) := dk_42 (dk_at dksX2_image_0 11 rfl rfl)
theorem dX2_image_12 : decode cX2_image 12 = .ok (.getfield 7, 3) := dk_180 0 7 (dk_at dksX2_image_0 12 rfl rfl)
theorem dX2_image_15 : decode cX2_image 15 = .ok (.bipush 16, 2) := dk_16 16 (dk_at dksX2_image_0 15 rfl rfl)
theorem dX2_image_17 : decode cX2_image 17 = .ok (.iaload, 1) := dk_46 (dk_at dksX2_image_0 17 rfl rfl)
theorem dX2_image_18 : decode cX2_image 18 = .ok (.ireturn, 1) := dk_172 (dk_at dksX2_image_0 18 rfl rfl)
abbrev cX2_back : ByteArray := prog_19_method_140_code
def yX2_back : MethodName := ⟨RX2, "back", "()I"⟩
def dkwX2_back_0 : List UInt8 := [42, 180, 0, 13, 42, 180, 0, 7, 184, 0, 67, 42, 180, 0, 7, 16, 16, 46, 172]
abbrev dktX2_back_0 : List UInt8 := dkwX2_back_0 ++ []
theorem dksX2_back_0 : cX2_back.data.toList.drop 0 = dktX2_back_0 := by decide +kernel
theorem dX2_back_0 : decode cX2_back 0 = .ok (.aload_n 0, 1) := dk_42 (dk_at dksX2_back_0 0 rfl rfl)
theorem dX2_back_1 : decode cX2_back 1 = .ok (.getfield 13, 3) := dk_180 0 13 (dk_at dksX2_back_0 1 rfl rfl)
theorem dX2_back_4 : decode cX2_back 4 = .ok (.aload_n 0, 1) := dk_42 (dk_at dksX2_back_0 4 rfl rfl)
theorem dX2_back_5 : decode cX2_back 5 = .ok (.getfield 7, 3) := dk_180 0 7 (dk_at dksX2_back_0 5 rfl rfl)
theorem dX2_back_8 : decode cX2_back 8 = .ok (.invokestatic 67, 3) := dk_184 0 67 (dk_at dksX2_back_0 8 rfl rfl)
theorem dX2_back_11 : decode cX2_back 11 = .ok (.aload_n 0, 1) := dk_42 (dk_at dksX2_back_0 11 rfl rfl)
theorem dX2_back_12 : decode cX2_back 12 = .ok (.getfield 7, 3) := dk_180 0 7 (dk_at dksX2_back_0 12 rfl rfl)
theorem dX2_back_15 : decode cX2_back 15 = .ok (.bipush 16, 2) := dk_16 16 (dk_at dksX2_back_0 15 rfl rfl)
theorem dX2_back_17 : decode cX2_back 17 = .ok (.iaload, 1) := dk_46 (dk_at dksX2_back_0 17 rfl rfl)
theorem dX2_back_18 : decode cX2_back 18 = .ok (.ireturn, 1) := dk_172 (dk_at dksX2_back_0 18 rfl rfl)
abbrev cX2_about : ByteArray := prog_19_method_141_code
def yX2_about : MethodName := ⟨RX2, "about", "(I)I"⟩
def dkwX2_about_2 : List UInt8 := [16, 9, 160, 0, 13, 42, 180, 0, 7, 16, 18, 46, 167, 0, 5, 16, 254, 172]
abbrev dktX2_about_2 : List UInt8 := dkwX2_about_2 ++ []
def dkwX2_about_1 : List UInt8 := [160, 0, 10, 42, 182, 1, 120, 167, 0, 34, 27, 16, 8, 160, 0, 10, 42, 180, 0, 75, 167, 0, 21, 27]
abbrev dktX2_about_1 : List UInt8 := dkwX2_about_1 ++ dktX2_about_2
def dkwX2_about_0 : List UInt8 := [27, 3, 16, 6, 184, 0, 71, 153, 0, 12, 42, 180, 0, 7, 27, 46, 167, 0, 47, 27, 16, 7]
abbrev dktX2_about_0 : List UInt8 := dkwX2_about_0 ++ dktX2_about_1
theorem dksX2_about_0 : cX2_about.data.toList.drop 0 = dktX2_about_0 := by decide +kernel
theorem dksX2_about_1 : cX2_about.data.toList.drop 22 = dktX2_about_1 := dk_seg dksX2_about_0 22 rfl rfl
theorem dksX2_about_2 : cX2_about.data.toList.drop 46 = dktX2_about_2 := dk_seg dksX2_about_1 24 rfl rfl
theorem dX2_about_0 : decode cX2_about 0 = .ok (.iload_n 1, 1) := dk_27 (dk_at dksX2_about_0 0 rfl rfl)
theorem dX2_about_1 : decode cX2_about 1 = .ok (.iconst 0, 1) := dk_3 (dk_at dksX2_about_0 1 rfl rfl)
theorem dX2_about_2 : decode cX2_about 2 = .ok (.bipush 6, 2) := dk_16 6 (dk_at dksX2_about_0 2 rfl rfl)
theorem dX2_about_4 : decode cX2_about 4 = .ok (.invokestatic 71, 3) := dk_184 0 71 (dk_at dksX2_about_0 4 rfl rfl)
theorem dX2_about_7 : decode cX2_about 7 = .ok (.ifCond .eq 12, 3) := dk_153 0 12 (dk_at dksX2_about_0 7 rfl rfl)
theorem dX2_about_10 : decode cX2_about 10 = .ok (.aload_n 0, 1) := dk_42 (dk_at dksX2_about_0 10 rfl rfl)
theorem dX2_about_11 : decode cX2_about 11 = .ok (.getfield 7, 3) := dk_180 0 7 (dk_at dksX2_about_0 11 rfl rfl)
theorem dX2_about_14 : decode cX2_about 14 = .ok (.iload_n 1, 1) := dk_27 (dk_at dksX2_about_0 14 rfl rfl)
theorem dX2_about_15 : decode cX2_about 15 = .ok (.iaload, 1) := dk_46 (dk_at dksX2_about_0 15 rfl rfl)
theorem dX2_about_16 : decode cX2_about 16 = .ok (.goto 47, 3) := dk_167 0 47 (dk_at dksX2_about_0 16 rfl rfl)
theorem dX2_about_19 : decode cX2_about 19 = .ok (.iload_n 1, 1) := dk_27 (dk_at dksX2_about_0 19 rfl rfl)
theorem dX2_about_20 : decode cX2_about 20 = .ok (.bipush 7, 2) := dk_16 7 (dk_at dksX2_about_0 20 rfl rfl)
theorem dX2_about_22 : decode cX2_about 22 = .ok (.if_icmp .ne 10, 3) := dk_160 0 10 (dk_at dksX2_about_1 0 rfl rfl)
theorem dX2_about_25 : decode cX2_about 25 = .ok (.aload_n 0, 1) := dk_42 (dk_at dksX2_about_1 3 rfl rfl)
theorem dX2_about_26 : decode cX2_about 26 = .ok (.invokevirtual 376, 3) := dk_182 1 120 (dk_at dksX2_about_1 4 rfl rfl)
theorem dX2_about_29 : decode cX2_about 29 = .ok (.goto 34, 3) := dk_167 0 34 (dk_at dksX2_about_1 7 rfl rfl)
theorem dX2_about_32 : decode cX2_about 32 = .ok (.iload_n 1, 1) := dk_27 (dk_at dksX2_about_1 10 rfl rfl)
theorem dX2_about_33 : decode cX2_about 33 = .ok (.bipush 8, 2) := dk_16 8 (dk_at dksX2_about_1 11 rfl rfl)
theorem dX2_about_35 : decode cX2_about 35 = .ok (.if_icmp .ne 10, 3) := dk_160 0 10 (dk_at dksX2_about_1 13 rfl rfl)
theorem dX2_about_38 : decode cX2_about 38 = .ok (.aload_n 0, 1) := dk_42 (dk_at dksX2_about_1 16 rfl rfl)
theorem dX2_about_39 : decode cX2_about 39 = .ok (.getfield 75, 3) := dk_180 0 75 (dk_at dksX2_about_1 17 rfl rfl)
theorem dX2_about_42 : decode cX2_about 42 = .ok (.goto 21, 3) := dk_167 0 21 (dk_at dksX2_about_1 20 rfl rfl)
theorem dX2_about_45 : decode cX2_about 45 = .ok (.iload_n 1, 1) := dk_27 (dk_at dksX2_about_1 23 rfl rfl)
theorem dX2_about_46 : decode cX2_about 46 = .ok (.bipush 9, 2) := dk_16 9 (dk_at dksX2_about_2 0 rfl rfl)
theorem dX2_about_48 : decode cX2_about 48 = .ok (.if_icmp .ne 13, 3) := dk_160 0 13 (dk_at dksX2_about_2 2 rfl rfl)
theorem dX2_about_51 : decode cX2_about 51 = .ok (.aload_n 0, 1) := dk_42 (dk_at dksX2_about_2 5 rfl rfl)
theorem dX2_about_52 : decode cX2_about 52 = .ok (.getfield 7, 3) := dk_180 0 7 (dk_at dksX2_about_2 6 rfl rfl)
theorem dX2_about_55 : decode cX2_about 55 = .ok (.bipush 18, 2) := dk_16 18 (dk_at dksX2_about_2 9 rfl rfl)
theorem dX2_about_57 : decode cX2_about 57 = .ok (.iaload, 1) := dk_46 (dk_at dksX2_about_2 11 rfl rfl)
theorem dX2_about_58 : decode cX2_about 58 = .ok (.goto 5, 3) := dk_167 0 5 (dk_at dksX2_about_2 12 rfl rfl)
theorem dX2_about_61 : decode cX2_about 61 = .ok (.bipush (-2), 2) := dk_16 254 (dk_at dksX2_about_2 15 rfl rfl)
theorem dX2_about_63 : decode cX2_about 63 = .ok (.ireturn, 1) := dk_172 (dk_at dksX2_about_2 17 rfl rfl)
theorem q133 : (Jvm.Cond.initialized "HookSwingsModel") ∈ lw_all := lw_g (lw_at lw_m1 4 rfl) rfl
theorem q691 : (Jvm.Cond.selects "HookSwingsModel" ({ cls := "java/lang/Object", name := "getClass", desc := "()Ljava/lang/Class;" } : Jvm.MethodName) ({ cls := "java/lang/Object", name := "getClass", desc := "()Ljava/lang/Class;" } : Jvm.MethodName)) ∈ lw_all := lw_g (lw_at lw_m3 82 rfl) rfl
theorem q1341 : (Jvm.Cond.instantiable "HookSwingsModel" (37 : Nat)) ∈ lw_all := lw_g (lw_at lw_m6 12 rfl) rfl
theorem q1343 : (Jvm.Cond.instanceMethod ({ cls := "HookSwingsModel", name := "<init>", desc := "()V" } : Jvm.MethodName)) ∈ lw_all := lw_g (lw_at lw_m6 14 rfl) rfl
theorem q1344 : (Jvm.Cond.code ({ cls := "HookSwingsModel", name := "<init>", desc := "()V" } : Jvm.MethodName) prog_19_method_1_code (1 : Nat) (Option.none : Option Jvm.ClassFile.FieldType)) ∈ lw_all := lw_g (lw_at lw_m6 15 rfl) rfl
theorem q1345 : (Jvm.Cond.methodLink "HookSwingsModel" (1 : Nat) ({ cls := "java/lang/Object", name := "<init>", desc := "()V" } : Jvm.MethodName)) ∈ lw_all := lw_g (lw_at lw_m6 16 rfl) rfl
theorem q1346 : (Jvm.Cond.methodLink "HookSwingsModel" (67 : Nat) ({ cls := "HookSwingsModel", name := "copy", desc := "([I[I)V" } : Jvm.MethodName)) ∈ lw_all := lw_g (lw_at lw_m6 17 rfl) rfl
theorem q1347 : (Jvm.Cond.static ({ cls := "HookSwingsModel", name := "copy", desc := "([I[I)V" } : Jvm.MethodName)) ∈ lw_all := lw_g (lw_at lw_m6 18 rfl) rfl
theorem q1348 : (Jvm.Cond.code ({ cls := "HookSwingsModel", name := "copy", desc := "([I[I)V" } : Jvm.MethodName) prog_19_method_2_code (3 : Nat) (Option.none : Option Jvm.ClassFile.FieldType)) ∈ lw_all := lw_g (lw_at lw_m6 19 rfl) rfl
theorem q1349 : (Jvm.Cond.fieldLink "HookSwingsModel" (7 : Nat) "HookSwingsModel" "a" "[I") ∈ lw_all := lw_g (lw_at lw_m6 20 rfl) rfl
theorem q1350 : (Jvm.Cond.fieldLink "HookSwingsModel" (13 : Nat) "HookSwingsModel" "image" "[I") ∈ lw_all := lw_g (lw_at lw_m6 21 rfl) rfl
theorem q1351 : (Jvm.Cond.fieldLink "HookSwingsModel" (16 : Nat) "HookSwingsModel" "texts" "[I") ∈ lw_all := lw_g (lw_at lw_m6 22 rfl) rfl
theorem q1352 : (Jvm.Cond.fieldLink "HookSwingsModel" (19 : Nat) "HookSwingsModel" "tape" "[I") ∈ lw_all := lw_g (lw_at lw_m6 23 rfl) rfl
theorem q1353 : (Jvm.Cond.fieldLink "HookSwingsModel" (75 : Nat) "HookSwingsModel" "taped" "I") ∈ lw_all := lw_g (lw_at lw_m6 24 rfl) rfl
theorem q1354 : (Jvm.Cond.fieldLink "HookSwingsModel" (22 : Nat) "HookSwingsModel" "fault" "I") ∈ lw_all := lw_g (lw_at lw_m6 25 rfl) rfl
theorem q1355 : (Jvm.Cond.fieldLink "HookSwingsModel" (26 : Nat) "HookSwingsModel" "faultPlace" "I") ∈ lw_all := lw_g (lw_at lw_m6 26 rfl) rfl
theorem q1356 : (Jvm.Cond.fieldLink "HookSwingsModel" (82 : Nat) "HookSwingsModel" "at" "I") ∈ lw_all := lw_g (lw_at lw_m6 27 rfl) rfl
theorem q1357 : (Jvm.Cond.fieldLink "HookSwingsModel" (89 : Nat) "HookSwingsModel" "place" "I") ∈ lw_all := lw_g (lw_at lw_m6 28 rfl) rfl
theorem q1358 : (Jvm.Cond.fieldLink "HookSwingsModel" (92 : Nat) "HookSwingsModel" "token" "I") ∈ lw_all := lw_g (lw_at lw_m6 29 rfl) rfl
theorem q1359 : (Jvm.Cond.fieldLink "HookSwingsModel" (99 : Nat) "HookSwingsModel" "number" "I") ∈ lw_all := lw_g (lw_at lw_m6 30 rfl) rfl
theorem q1360 : (Jvm.Cond.fieldLink "HookSwingsModel" (106 : Nat) "HookSwingsModel" "word" "J") ∈ lw_all := lw_g (lw_at lw_m6 31 rfl) rfl
theorem q1361 : (Jvm.Cond.fieldLink "HookSwingsModel" (131 : Nat) "HookSwingsModel" "text0" "I") ∈ lw_all := lw_g (lw_at lw_m6 32 rfl) rfl
theorem q1362 : (Jvm.Cond.fieldLink "HookSwingsModel" (134 : Nat) "HookSwingsModel" "written" "I") ∈ lw_all := lw_g (lw_at lw_m6 33 rfl) rfl
theorem q1363 : (Jvm.Cond.fieldLink "HookSwingsModel" (141 : Nat) "HookSwingsModel" "sort0" "I") ∈ lw_all := lw_g (lw_at lw_m6 34 rfl) rfl
theorem q1364 : (Jvm.Cond.fieldLink "HookSwingsModel" (29 : Nat) "HookSwingsModel" "pile" "[I") ∈ lw_all := lw_g (lw_at lw_m6 35 rfl) rfl
theorem q1365 : (Jvm.Cond.fieldLink "HookSwingsModel" (144 : Nat) "HookSwingsModel" "piled" "I") ∈ lw_all := lw_g (lw_at lw_m6 36 rfl) rfl
theorem q1366 : (Jvm.Cond.fieldLink "HookSwingsModel" (154 : Nat) "HookSwingsModel" "opens" "I") ∈ lw_all := lw_g (lw_at lw_m6 37 rfl) rfl
theorem q1367 : (Jvm.Cond.fieldLink "HookSwingsModel" (167 : Nat) "HookSwingsModel" "isWhole" "Z") ∈ lw_all := lw_g (lw_at lw_m6 38 rfl) rfl
theorem q1368 : (Jvm.Cond.fieldLink "HookSwingsModel" (238 : Nat) "HookSwingsModel" "once" "I") ∈ lw_all := lw_g (lw_at lw_m6 39 rfl) rfl
theorem q1369 : (Jvm.Cond.fieldLink "HookSwingsModel" (32 : Nat) "HookSwingsModel" "named" "[I") ∈ lw_all := lw_g (lw_at lw_m6 40 rfl) rfl
theorem q1370 : (Jvm.Cond.fieldLink "HookSwingsModel" (263 : Nat) "HookSwingsModel" "agoFrom" "I") ∈ lw_all := lw_g (lw_at lw_m6 41 rfl) rfl
theorem q1371 : (Jvm.Cond.fieldLink "HookSwingsModel" (266 : Nat) "HookSwingsModel" "agoEldest" "I") ∈ lw_all := lw_g (lw_at lw_m6 42 rfl) rfl
theorem q1372 : (Jvm.Cond.fieldLink "HookSwingsModel" (35 : Nat) "HookSwingsModel" "values" "[J") ∈ lw_all := lw_g (lw_at lw_m6 43 rfl) rfl
theorem q1373 : (Jvm.Cond.fieldLink "HookSwingsModel" (39 : Nat) "HookSwingsModel" "truth" "[Z") ∈ lw_all := lw_g (lw_at lw_m6 44 rfl) rfl
theorem q1374 : (Jvm.Cond.fieldLink "HookSwingsModel" (317 : Nat) "HookSwingsModel" "isCalm" "Z") ∈ lw_all := lw_g (lw_at lw_m6 45 rfl) rfl
theorem q1375 : (Jvm.Cond.fieldLink "HookSwingsModel" (43 : Nat) "HookSwingsModel" "aside" "[I") ∈ lw_all := lw_g (lw_at lw_m6 46 rfl) rfl
theorem q1376 : (Jvm.Cond.fieldLink "HookSwingsModel" (403 : Nat) "HookSwingsModel" "firstMost" "I") ∈ lw_all := lw_g (lw_at lw_m6 47 rfl) rfl
theorem q1377 : (Jvm.Cond.fieldLink "HookSwingsModel" (406 : Nat) "HookSwingsModel" "laterMost" "I") ∈ lw_all := lw_g (lw_at lw_m6 48 rfl) rfl
theorem q1378 : (Jvm.Cond.fieldLink "HookSwingsModel" (46 : Nat) "HookSwingsModel" "pastAside" "[I") ∈ lw_all := lw_g (lw_at lw_m6 49 rfl) rfl
theorem q1379 : (Jvm.Cond.fieldLink "HookSwingsModel" (49 : Nat) "HookSwingsModel" "member" "[I") ∈ lw_all := lw_g (lw_at lw_m6 50 rfl) rfl
theorem q1380 : (Jvm.Cond.fieldLink "HookSwingsModel" (52 : Nat) "HookSwingsModel" "length" "[I") ∈ lw_all := lw_g (lw_at lw_m6 51 rfl) rfl
theorem q1381 : (Jvm.Cond.fieldLink "HookSwingsModel" (55 : Nat) "HookSwingsModel" "row" "[I") ∈ lw_all := lw_g (lw_at lw_m6 52 rfl) rfl
theorem q1382 : (Jvm.Cond.fieldLink "HookSwingsModel" (58 : Nat) "HookSwingsModel" "bestRow" "[I") ∈ lw_all := lw_g (lw_at lw_m6 53 rfl) rfl
theorem q1383 : (Jvm.Cond.fieldLink "HookSwingsModel" (442 : Nat) "HookSwingsModel" "members" "I") ∈ lw_all := lw_g (lw_at lw_m6 54 rfl) rfl
theorem q1384 : (Jvm.Cond.fieldLink "HookSwingsModel" (61 : Nat) "HookSwingsModel" "begins" "[I") ∈ lw_all := lw_g (lw_at lw_m6 55 rfl) rfl
theorem q1385 : (Jvm.Cond.fieldLink "HookSwingsModel" (64 : Nat) "HookSwingsModel" "bestBegins" "[I") ∈ lw_all := lw_g (lw_at lw_m6 56 rfl) rfl
theorem q1386 : (Jvm.Cond.laysFinal "HookSwingsModel" "HookSwingsModel" "a" "[I") ∈ lw_all := lw_g (lw_at lw_m6 57 rfl) rfl
theorem q1387 : (Jvm.Cond.soleField "HookSwingsModel" "a") ∈ lw_all := lw_g (lw_at lw_m6 58 rfl) rfl
theorem q1388 : (Jvm.Cond.laysFinal "HookSwingsModel" "HookSwingsModel" "image" "[I") ∈ lw_all := lw_g (lw_at lw_m6 59 rfl) rfl
theorem q1389 : (Jvm.Cond.soleField "HookSwingsModel" "image") ∈ lw_all := lw_g (lw_at lw_m6 60 rfl) rfl
theorem q1390 : (Jvm.Cond.laysFinal "HookSwingsModel" "HookSwingsModel" "texts" "[I") ∈ lw_all := lw_g (lw_at lw_m6 61 rfl) rfl
theorem q1391 : (Jvm.Cond.soleField "HookSwingsModel" "texts") ∈ lw_all := lw_g (lw_at lw_m6 62 rfl) rfl
theorem q1392 : (Jvm.Cond.laysFinal "HookSwingsModel" "HookSwingsModel" "tape" "[I") ∈ lw_all := lw_g (lw_at lw_m6 63 rfl) rfl
theorem q1393 : (Jvm.Cond.soleField "HookSwingsModel" "tape") ∈ lw_all := lw_g (lw_at lw_m6 64 rfl) rfl
theorem q1394 : (Jvm.Cond.lays "HookSwingsModel" "HookSwingsModel" "taped" "I") ∈ lw_all := lw_g (lw_at lw_m6 65 rfl) rfl
theorem q1395 : (Jvm.Cond.soleField "HookSwingsModel" "taped") ∈ lw_all := lw_g (lw_at lw_m6 66 rfl) rfl
theorem q1396 : (Jvm.Cond.lays "HookSwingsModel" "HookSwingsModel" "fault" "I") ∈ lw_all := lw_g (lw_at lw_m6 67 rfl) rfl
theorem q1397 : (Jvm.Cond.soleField "HookSwingsModel" "fault") ∈ lw_all := lw_g (lw_at lw_m6 68 rfl) rfl
theorem q1398 : (Jvm.Cond.lays "HookSwingsModel" "HookSwingsModel" "faultPlace" "I") ∈ lw_all := lw_g (lw_at lw_m6 69 rfl) rfl
theorem q1399 : (Jvm.Cond.soleField "HookSwingsModel" "faultPlace") ∈ lw_all := lw_g (lw_at lw_m6 70 rfl) rfl
theorem q1400 : (Jvm.Cond.lays "HookSwingsModel" "HookSwingsModel" "at" "I") ∈ lw_all := lw_g (lw_at lw_m6 71 rfl) rfl
theorem q1401 : (Jvm.Cond.soleField "HookSwingsModel" "at") ∈ lw_all := lw_g (lw_at lw_m6 72 rfl) rfl
theorem q1402 : (Jvm.Cond.lays "HookSwingsModel" "HookSwingsModel" "place" "I") ∈ lw_all := lw_g (lw_at lw_m6 73 rfl) rfl
theorem q1403 : (Jvm.Cond.soleField "HookSwingsModel" "place") ∈ lw_all := lw_g (lw_at lw_m6 74 rfl) rfl
theorem q1404 : (Jvm.Cond.lays "HookSwingsModel" "HookSwingsModel" "token" "I") ∈ lw_all := lw_g (lw_at lw_m6 75 rfl) rfl
theorem q1405 : (Jvm.Cond.soleField "HookSwingsModel" "token") ∈ lw_all := lw_g (lw_at lw_m6 76 rfl) rfl
theorem q1406 : (Jvm.Cond.lays "HookSwingsModel" "HookSwingsModel" "number" "I") ∈ lw_all := lw_g (lw_at lw_m6 77 rfl) rfl
theorem q1407 : (Jvm.Cond.soleField "HookSwingsModel" "number") ∈ lw_all := lw_g (lw_at lw_m6 78 rfl) rfl
theorem q1408 : (Jvm.Cond.lays "HookSwingsModel" "HookSwingsModel" "word" "J") ∈ lw_all := lw_g (lw_at lw_m6 79 rfl) rfl
theorem q1409 : (Jvm.Cond.soleField "HookSwingsModel" "word") ∈ lw_all := lw_g (lw_at lw_m6 80 rfl) rfl
theorem q1410 : (Jvm.Cond.lays "HookSwingsModel" "HookSwingsModel" "text0" "I") ∈ lw_all := lw_g (lw_at lw_m6 81 rfl) rfl
theorem q1411 : (Jvm.Cond.soleField "HookSwingsModel" "text0") ∈ lw_all := lw_g (lw_at lw_m6 82 rfl) rfl
theorem q1412 : (Jvm.Cond.lays "HookSwingsModel" "HookSwingsModel" "written" "I") ∈ lw_all := lw_g (lw_at lw_m6 83 rfl) rfl
theorem q1413 : (Jvm.Cond.soleField "HookSwingsModel" "written") ∈ lw_all := lw_g (lw_at lw_m6 84 rfl) rfl
theorem q1414 : (Jvm.Cond.lays "HookSwingsModel" "HookSwingsModel" "sort0" "I") ∈ lw_all := lw_g (lw_at lw_m6 85 rfl) rfl
theorem q1415 : (Jvm.Cond.soleField "HookSwingsModel" "sort0") ∈ lw_all := lw_g (lw_at lw_m6 86 rfl) rfl
theorem q1416 : (Jvm.Cond.laysFinal "HookSwingsModel" "HookSwingsModel" "pile" "[I") ∈ lw_all := lw_g (lw_at lw_m6 87 rfl) rfl
theorem q1417 : (Jvm.Cond.soleField "HookSwingsModel" "pile") ∈ lw_all := lw_g (lw_at lw_m6 88 rfl) rfl
theorem q1418 : (Jvm.Cond.lays "HookSwingsModel" "HookSwingsModel" "piled" "I") ∈ lw_all := lw_g (lw_at lw_m6 89 rfl) rfl
theorem q1419 : (Jvm.Cond.soleField "HookSwingsModel" "piled") ∈ lw_all := lw_g (lw_at lw_m6 90 rfl) rfl
theorem q1420 : (Jvm.Cond.lays "HookSwingsModel" "HookSwingsModel" "opens" "I") ∈ lw_all := lw_g (lw_at lw_m6 91 rfl) rfl
theorem q1421 : (Jvm.Cond.soleField "HookSwingsModel" "opens") ∈ lw_all := lw_g (lw_at lw_m6 92 rfl) rfl
theorem q1422 : (Jvm.Cond.lays "HookSwingsModel" "HookSwingsModel" "isWhole" "Z") ∈ lw_all := lw_g (lw_at lw_m6 93 rfl) rfl
theorem q1423 : (Jvm.Cond.soleField "HookSwingsModel" "isWhole") ∈ lw_all := lw_g (lw_at lw_m6 94 rfl) rfl
theorem q1424 : (Jvm.Cond.lays "HookSwingsModel" "HookSwingsModel" "once" "I") ∈ lw_all := lw_g (lw_at lw_m6 95 rfl) rfl
theorem q1425 : (Jvm.Cond.soleField "HookSwingsModel" "once") ∈ lw_all := lw_g (lw_at lw_m6 96 rfl) rfl
theorem q1426 : (Jvm.Cond.laysFinal "HookSwingsModel" "HookSwingsModel" "named" "[I") ∈ lw_all := lw_g (lw_at lw_m6 97 rfl) rfl
theorem q1427 : (Jvm.Cond.soleField "HookSwingsModel" "named") ∈ lw_all := lw_g (lw_at lw_m6 98 rfl) rfl
theorem q1428 : (Jvm.Cond.lays "HookSwingsModel" "HookSwingsModel" "agoFrom" "I") ∈ lw_all := lw_g (lw_at lw_m6 99 rfl) rfl
theorem q1429 : (Jvm.Cond.soleField "HookSwingsModel" "agoFrom") ∈ lw_all := lw_g (lw_at lw_m6 100 rfl) rfl
theorem q1430 : (Jvm.Cond.lays "HookSwingsModel" "HookSwingsModel" "agoEldest" "I") ∈ lw_all := lw_g (lw_at lw_m6 101 rfl) rfl
theorem q1431 : (Jvm.Cond.soleField "HookSwingsModel" "agoEldest") ∈ lw_all := lw_g (lw_at lw_m6 102 rfl) rfl
theorem q1432 : (Jvm.Cond.laysFinal "HookSwingsModel" "HookSwingsModel" "values" "[J") ∈ lw_all := lw_g (lw_at lw_m6 103 rfl) rfl
theorem q1433 : (Jvm.Cond.soleField "HookSwingsModel" "values") ∈ lw_all := lw_g (lw_at lw_m6 104 rfl) rfl
theorem q1434 : (Jvm.Cond.laysFinal "HookSwingsModel" "HookSwingsModel" "truth" "[Z") ∈ lw_all := lw_g (lw_at lw_m6 105 rfl) rfl
theorem q1435 : (Jvm.Cond.soleField "HookSwingsModel" "truth") ∈ lw_all := lw_g (lw_at lw_m6 106 rfl) rfl
theorem q1436 : (Jvm.Cond.lays "HookSwingsModel" "HookSwingsModel" "isCalm" "Z") ∈ lw_all := lw_g (lw_at lw_m6 107 rfl) rfl
theorem q1437 : (Jvm.Cond.soleField "HookSwingsModel" "isCalm") ∈ lw_all := lw_g (lw_at lw_m6 108 rfl) rfl
theorem q1438 : (Jvm.Cond.laysFinal "HookSwingsModel" "HookSwingsModel" "aside" "[I") ∈ lw_all := lw_g (lw_at lw_m6 109 rfl) rfl
theorem q1439 : (Jvm.Cond.soleField "HookSwingsModel" "aside") ∈ lw_all := lw_g (lw_at lw_m6 110 rfl) rfl
theorem q1440 : (Jvm.Cond.lays "HookSwingsModel" "HookSwingsModel" "firstMost" "I") ∈ lw_all := lw_g (lw_at lw_m6 111 rfl) rfl
theorem q1441 : (Jvm.Cond.soleField "HookSwingsModel" "firstMost") ∈ lw_all := lw_g (lw_at lw_m6 112 rfl) rfl
theorem q1442 : (Jvm.Cond.lays "HookSwingsModel" "HookSwingsModel" "laterMost" "I") ∈ lw_all := lw_g (lw_at lw_m6 113 rfl) rfl
theorem q1443 : (Jvm.Cond.soleField "HookSwingsModel" "laterMost") ∈ lw_all := lw_g (lw_at lw_m6 114 rfl) rfl
theorem q1444 : (Jvm.Cond.laysFinal "HookSwingsModel" "HookSwingsModel" "pastAside" "[I") ∈ lw_all := lw_g (lw_at lw_m6 115 rfl) rfl
theorem q1445 : (Jvm.Cond.soleField "HookSwingsModel" "pastAside") ∈ lw_all := lw_g (lw_at lw_m6 116 rfl) rfl
theorem q1446 : (Jvm.Cond.laysFinal "HookSwingsModel" "HookSwingsModel" "member" "[I") ∈ lw_all := lw_g (lw_at lw_m6 117 rfl) rfl
theorem q1447 : (Jvm.Cond.soleField "HookSwingsModel" "member") ∈ lw_all := lw_g (lw_at lw_m6 118 rfl) rfl
theorem q1448 : (Jvm.Cond.laysFinal "HookSwingsModel" "HookSwingsModel" "length" "[I") ∈ lw_all := lw_g (lw_at lw_m6 119 rfl) rfl
theorem q1449 : (Jvm.Cond.soleField "HookSwingsModel" "length") ∈ lw_all := lw_g (lw_at lw_m6 120 rfl) rfl
theorem q1450 : (Jvm.Cond.laysFinal "HookSwingsModel" "HookSwingsModel" "row" "[I") ∈ lw_all := lw_g (lw_at lw_m6 121 rfl) rfl
theorem q1451 : (Jvm.Cond.soleField "HookSwingsModel" "row") ∈ lw_all := lw_g (lw_at lw_m6 122 rfl) rfl
theorem q1452 : (Jvm.Cond.laysFinal "HookSwingsModel" "HookSwingsModel" "bestRow" "[I") ∈ lw_all := lw_g (lw_at lw_m6 123 rfl) rfl
theorem q1453 : (Jvm.Cond.soleField "HookSwingsModel" "bestRow") ∈ lw_all := lw_g (lw_at lw_m6 124 rfl) rfl
theorem q1454 : (Jvm.Cond.lays "HookSwingsModel" "HookSwingsModel" "members" "I") ∈ lw_all := lw_g (lw_at lw_m6 125 rfl) rfl
theorem q1455 : (Jvm.Cond.soleField "HookSwingsModel" "members") ∈ lw_all := lw_g (lw_at lw_m6 126 rfl) rfl
theorem q1456 : (Jvm.Cond.laysFinal "HookSwingsModel" "HookSwingsModel" "begins" "[I") ∈ lw_all := lw_g (lw_at lw_m6 127 rfl) rfl
theorem q1457 : (Jvm.Cond.soleField "HookSwingsModel" "begins") ∈ lw_all := lw_g (lw_at lw_m6 128 rfl) rfl
theorem q1458 : (Jvm.Cond.laysFinal "HookSwingsModel" "HookSwingsModel" "bestBegins" "[I") ∈ lw_all := lw_g (lw_at lw_m6 129 rfl) rfl
theorem q1459 : (Jvm.Cond.soleField "HookSwingsModel" "bestBegins") ∈ lw_all := lw_g (lw_at lw_m6 130 rfl) rfl
theorem q1460 : (Jvm.Cond.superclass "HookSwingsModel" "java/lang/Object") ∈ lw_all := lw_g (lw_at lw_m6 131 rfl) rfl
theorem q1464 : (Jvm.Cond.instanceMethod ({ cls := "HookSwingsModel", name := "order", desc := "(IIIII)I" } : Jvm.MethodName)) ∈ lw_all := lw_g (lw_at lw_m6 135 rfl) rfl
theorem q1465 : (Jvm.Cond.selects "HookSwingsModel" ({ cls := "HookSwingsModel", name := "order", desc := "(IIIII)I" } : Jvm.MethodName) ({ cls := "HookSwingsModel", name := "order", desc := "(IIIII)I" } : Jvm.MethodName)) ∈ lw_all := lw_g (lw_at lw_m6 136 rfl) rfl
theorem q1466 : (Jvm.Cond.code ({ cls := "HookSwingsModel", name := "order", desc := "(IIIII)I" } : Jvm.MethodName) prog_19_method_10_code (7 : Nat) (Option.some Jvm.ClassFile.FieldType.int)) ∈ lw_all := lw_g (lw_at lw_m6 137 rfl) rfl
theorem q1467 : (Jvm.Cond.methodLink "HookSwingsModel" (71 : Nat) ({ cls := "HookSwingsModel", name := "isIn", desc := "(III)Z" } : Jvm.MethodName)) ∈ lw_all := lw_g (lw_at lw_m6 138 rfl) rfl
theorem q1468 : (Jvm.Cond.static ({ cls := "HookSwingsModel", name := "isIn", desc := "(III)Z" } : Jvm.MethodName)) ∈ lw_all := lw_g (lw_at lw_m6 139 rfl) rfl
theorem q1469 : (Jvm.Cond.code ({ cls := "HookSwingsModel", name := "isIn", desc := "(III)Z" } : Jvm.MethodName) prog_19_method_3_code (3 : Nat) (Option.some Jvm.ClassFile.FieldType.boolean)) ∈ lw_all := lw_g (lw_at lw_m6 140 rfl) rfl
theorem q1471 : (Jvm.Cond.instanceMethod ({ cls := "HookSwingsModel", name := "near", desc := "(I)Z" } : Jvm.MethodName)) ∈ lw_all := lw_g (lw_at lw_m6 142 rfl) rfl
theorem q1472 : (Jvm.Cond.selects "HookSwingsModel" ({ cls := "HookSwingsModel", name := "near", desc := "(I)Z" } : Jvm.MethodName) ({ cls := "HookSwingsModel", name := "near", desc := "(I)Z" } : Jvm.MethodName)) ∈ lw_all := lw_g (lw_at lw_m6 143 rfl) rfl
theorem q1473 : (Jvm.Cond.code ({ cls := "HookSwingsModel", name := "near", desc := "(I)Z" } : Jvm.MethodName) prog_19_method_11_code (2 : Nat) (Option.some Jvm.ClassFile.FieldType.boolean)) ∈ lw_all := lw_g (lw_at lw_m6 144 rfl) rfl
theorem q1475 : (Jvm.Cond.instanceMethod ({ cls := "HookSwingsModel", name := "feed", desc := "(IIIII)I" } : Jvm.MethodName)) ∈ lw_all := lw_g (lw_at lw_m6 146 rfl) rfl
theorem q1476 : (Jvm.Cond.selects "HookSwingsModel" ({ cls := "HookSwingsModel", name := "feed", desc := "(IIIII)I" } : Jvm.MethodName) ({ cls := "HookSwingsModel", name := "feed", desc := "(IIIII)I" } : Jvm.MethodName)) ∈ lw_all := lw_g (lw_at lw_m6 147 rfl) rfl
theorem q1477 : (Jvm.Cond.code ({ cls := "HookSwingsModel", name := "feed", desc := "(IIIII)I" } : Jvm.MethodName) prog_19_method_13_code (6 : Nat) (Option.some Jvm.ClassFile.FieldType.int)) ∈ lw_all := lw_g (lw_at lw_m6 148 rfl) rfl
theorem q1478 : (Jvm.Cond.methodLink "HookSwingsModel" (78 : Nat) ({ cls := "HookSwingsModel", name := "four", desc := "(I)V" } : Jvm.MethodName)) ∈ lw_all := lw_g (lw_at lw_m6 149 rfl) rfl
theorem q1479 : (Jvm.Cond.privateMethod ({ cls := "HookSwingsModel", name := "four", desc := "(I)V" } : Jvm.MethodName)) ∈ lw_tbl := lw_at lw_m6 150 rfl
theorem q1480 : (Jvm.Cond.instanceMethod ({ cls := "HookSwingsModel", name := "four", desc := "(I)V" } : Jvm.MethodName)) ∈ lw_all := lw_g (lw_at lw_m6 151 rfl) rfl
theorem q1481 : (Jvm.Cond.code ({ cls := "HookSwingsModel", name := "four", desc := "(I)V" } : Jvm.MethodName) prog_19_method_12_code (3 : Nat) (Option.none : Option Jvm.ClassFile.FieldType)) ∈ lw_all := lw_g (lw_at lw_m6 152 rfl) rfl
theorem q1483 : (Jvm.Cond.instanceMethod ({ cls := "HookSwingsModel", name := "end", desc := "(I)I" } : Jvm.MethodName)) ∈ lw_all := lw_g (lw_at lw_m6 154 rfl) rfl
theorem q1484 : (Jvm.Cond.selects "HookSwingsModel" ({ cls := "HookSwingsModel", name := "end", desc := "(I)I" } : Jvm.MethodName) ({ cls := "HookSwingsModel", name := "end", desc := "(I)I" } : Jvm.MethodName)) ∈ lw_all := lw_g (lw_at lw_m6 155 rfl) rfl
theorem q1485 : (Jvm.Cond.code ({ cls := "HookSwingsModel", name := "end", desc := "(I)I" } : Jvm.MethodName) prog_19_method_14_code (2 : Nat) (Option.some Jvm.ClassFile.FieldType.int)) ∈ lw_all := lw_g (lw_at lw_m6 156 rfl) rfl
theorem q1487 : (Jvm.Cond.instanceMethod ({ cls := "HookSwingsModel", name := "text", desc := "()I" } : Jvm.MethodName)) ∈ lw_all := lw_g (lw_at lw_m6 158 rfl) rfl
theorem q1488 : (Jvm.Cond.selects "HookSwingsModel" ({ cls := "HookSwingsModel", name := "text", desc := "()I" } : Jvm.MethodName) ({ cls := "HookSwingsModel", name := "text", desc := "()I" } : Jvm.MethodName)) ∈ lw_all := lw_g (lw_at lw_m6 159 rfl) rfl
theorem q1489 : (Jvm.Cond.code ({ cls := "HookSwingsModel", name := "text", desc := "()I" } : Jvm.MethodName) prog_19_method_53_code (1 : Nat) (Option.some Jvm.ClassFile.FieldType.int)) ∈ lw_all := lw_g (lw_at lw_m6 160 rfl) rfl
theorem q1490 : (Jvm.Cond.methodLink "HookSwingsModel" (252 : Nat) ({ cls := "HookSwingsModel", name := "readText", desc := "()I" } : Jvm.MethodName)) ∈ lw_all := lw_g (lw_at lw_m6 161 rfl) rfl
theorem q1491 : (Jvm.Cond.privateMethod ({ cls := "HookSwingsModel", name := "readText", desc := "()I" } : Jvm.MethodName)) ∈ lw_tbl := lw_at lw_m6 162 rfl
theorem q1492 : (Jvm.Cond.instanceMethod ({ cls := "HookSwingsModel", name := "readText", desc := "()I" } : Jvm.MethodName)) ∈ lw_all := lw_g (lw_at lw_m6 163 rfl) rfl
theorem q1493 : (Jvm.Cond.code ({ cls := "HookSwingsModel", name := "readText", desc := "()I" } : Jvm.MethodName) prog_19_method_52_code (2 : Nat) (Option.some Jvm.ClassFile.FieldType.int)) ∈ lw_all := lw_g (lw_at lw_m6 164 rfl) rfl
theorem q1494 : (Jvm.Cond.methodLink "HookSwingsModel" (164 : Nat) ({ cls := "HookSwingsModel", name := "nextToken", desc := "()V" } : Jvm.MethodName)) ∈ lw_all := lw_g (lw_at lw_m6 165 rfl) rfl
theorem q1495 : (Jvm.Cond.privateMethod ({ cls := "HookSwingsModel", name := "nextToken", desc := "()V" } : Jvm.MethodName)) ∈ lw_tbl := lw_at lw_m6 166 rfl
theorem q1496 : (Jvm.Cond.instanceMethod ({ cls := "HookSwingsModel", name := "nextToken", desc := "()V" } : Jvm.MethodName)) ∈ lw_all := lw_g (lw_at lw_m6 167 rfl) rfl
theorem q1497 : (Jvm.Cond.code ({ cls := "HookSwingsModel", name := "nextToken", desc := "()V" } : Jvm.MethodName) prog_19_method_19_code (2 : Nat) (Option.none : Option Jvm.ClassFile.FieldType)) ∈ lw_all := lw_g (lw_at lw_m6 168 rfl) rfl
theorem q1498 : (Jvm.Cond.methodLink "HookSwingsModel" (85 : Nat) ({ cls := "HookSwingsModel", name := "byteAt", desc := "(I)I" } : Jvm.MethodName)) ∈ lw_all := lw_g (lw_at lw_m6 169 rfl) rfl
theorem q1499 : (Jvm.Cond.privateMethod ({ cls := "HookSwingsModel", name := "byteAt", desc := "(I)I" } : Jvm.MethodName)) ∈ lw_tbl := lw_at lw_m6 170 rfl
theorem q1500 : (Jvm.Cond.instanceMethod ({ cls := "HookSwingsModel", name := "byteAt", desc := "(I)I" } : Jvm.MethodName)) ∈ lw_all := lw_g (lw_at lw_m6 171 rfl) rfl
theorem q1501 : (Jvm.Cond.code ({ cls := "HookSwingsModel", name := "byteAt", desc := "(I)I" } : Jvm.MethodName) prog_19_method_15_code (2 : Nat) (Option.some Jvm.ClassFile.FieldType.int)) ∈ lw_all := lw_g (lw_at lw_m6 172 rfl) rfl
theorem q1502 : (Jvm.Cond.methodLink "HookSwingsModel" (95 : Nat) ({ cls := "HookSwingsModel", name := "isFigure", desc := "(I)Z" } : Jvm.MethodName)) ∈ lw_all := lw_g (lw_at lw_m6 173 rfl) rfl
theorem q1503 : (Jvm.Cond.static ({ cls := "HookSwingsModel", name := "isFigure", desc := "(I)Z" } : Jvm.MethodName)) ∈ lw_all := lw_g (lw_at lw_m6 174 rfl) rfl
theorem q1504 : (Jvm.Cond.code ({ cls := "HookSwingsModel", name := "isFigure", desc := "(I)Z" } : Jvm.MethodName) prog_19_method_17_code (1 : Nat) (Option.some Jvm.ClassFile.FieldType.boolean)) ∈ lw_all := lw_g (lw_at lw_m6 175 rfl) rfl
theorem q1505 : (Jvm.Cond.constant "HookSwingsModel" (102 : Nat) (99999 : Int32)) ∈ lw_all := lw_g (lw_at lw_m6 176 rfl) rfl
theorem q1506 : (Jvm.Cond.methodLink "HookSwingsModel" (103 : Nat) ({ cls := "HookSwingsModel", name := "isLetterByte", desc := "(I)Z" } : Jvm.MethodName)) ∈ lw_all := lw_g (lw_at lw_m6 177 rfl) rfl
theorem q1507 : (Jvm.Cond.static ({ cls := "HookSwingsModel", name := "isLetterByte", desc := "(I)Z" } : Jvm.MethodName)) ∈ lw_all := lw_g (lw_at lw_m6 178 rfl) rfl
theorem q1508 : (Jvm.Cond.code ({ cls := "HookSwingsModel", name := "isLetterByte", desc := "(I)Z" } : Jvm.MethodName) prog_19_method_16_code (1 : Nat) (Option.some Jvm.ClassFile.FieldType.boolean)) ∈ lw_all := lw_g (lw_at lw_m6 179 rfl) rfl
theorem q1509 : (Jvm.Cond.constantLong "HookSwingsModel" (110 : Nat) (1152921504606846976 : Int64)) ∈ lw_all := lw_g (lw_at lw_m6 180 rfl) rfl
theorem q1510 : (Jvm.Cond.methodLink "HookSwingsModel" (112 : Nat) ({ cls := "HookSwingsModel", name := "isSign", desc := "(I)Z" } : Jvm.MethodName)) ∈ lw_all := lw_g (lw_at lw_m6 181 rfl) rfl
theorem q1511 : (Jvm.Cond.static ({ cls := "HookSwingsModel", name := "isSign", desc := "(I)Z" } : Jvm.MethodName)) ∈ lw_all := lw_g (lw_at lw_m6 182 rfl) rfl
theorem q1512 : (Jvm.Cond.code ({ cls := "HookSwingsModel", name := "isSign", desc := "(I)Z" } : Jvm.MethodName) prog_19_method_18_code (1 : Nat) (Option.some Jvm.ClassFile.FieldType.boolean)) ∈ lw_all := lw_g (lw_at lw_m6 183 rfl) rfl
theorem q1513 : (Jvm.Cond.methodLink "HookSwingsModel" (249 : Nat) ({ cls := "HookSwingsModel", name := "clause", desc := "()I" } : Jvm.MethodName)) ∈ lw_all := lw_g (lw_at lw_m6 184 rfl) rfl
theorem q1514 : (Jvm.Cond.privateMethod ({ cls := "HookSwingsModel", name := "clause", desc := "()I" } : Jvm.MethodName)) ∈ lw_tbl := lw_at lw_m6 185 rfl
theorem q1515 : (Jvm.Cond.instanceMethod ({ cls := "HookSwingsModel", name := "clause", desc := "()I" } : Jvm.MethodName)) ∈ lw_all := lw_g (lw_at lw_m6 186 rfl) rfl
theorem q1516 : (Jvm.Cond.code ({ cls := "HookSwingsModel", name := "clause", desc := "()I" } : Jvm.MethodName) prog_19_method_51_code (5 : Nat) (Option.some Jvm.ClassFile.FieldType.int)) ∈ lw_all := lw_g (lw_at lw_m6 187 rfl) rfl
theorem q1517 : (Jvm.Cond.methodLink "HookSwingsModel" (235 : Nat) ({ cls := "HookSwingsModel", name := "sortOf", desc := "()I" } : Jvm.MethodName)) ∈ lw_all := lw_g (lw_at lw_m6 188 rfl) rfl
theorem q1518 : (Jvm.Cond.privateMethod ({ cls := "HookSwingsModel", name := "sortOf", desc := "()I" } : Jvm.MethodName)) ∈ lw_tbl := lw_at lw_m6 189 rfl
theorem q1519 : (Jvm.Cond.instanceMethod ({ cls := "HookSwingsModel", name := "sortOf", desc := "()I" } : Jvm.MethodName)) ∈ lw_all := lw_g (lw_at lw_m6 190 rfl) rfl
theorem q1520 : (Jvm.Cond.code ({ cls := "HookSwingsModel", name := "sortOf", desc := "()I" } : Jvm.MethodName) prog_19_method_50_code (1 : Nat) (Option.some Jvm.ClassFile.FieldType.int)) ∈ lw_all := lw_g (lw_at lw_m6 191 rfl) rfl
theorem q1521 : (Jvm.Cond.methodLink "HookSwingsModel" (127 : Nat) ({ cls := "HookSwingsModel", name := "w5", desc := "(IIIII)J" } : Jvm.MethodName)) ∈ lw_all := lw_g (lw_at lw_m6 192 rfl) rfl
theorem q1522 : (Jvm.Cond.static ({ cls := "HookSwingsModel", name := "w5", desc := "(IIIII)J" } : Jvm.MethodName)) ∈ lw_all := lw_g (lw_at lw_m6 193 rfl) rfl
theorem q1523 : (Jvm.Cond.code ({ cls := "HookSwingsModel", name := "w5", desc := "(IIIII)J" } : Jvm.MethodName) prog_19_method_23_code (5 : Nat) (Option.some Jvm.ClassFile.FieldType.long)) ∈ lw_all := lw_g (lw_at lw_m6 194 rfl) rfl
theorem q1524 : (Jvm.Cond.methodLink "HookSwingsModel" (123 : Nat) ({ cls := "HookSwingsModel", name := "w4", desc := "(IIII)J" } : Jvm.MethodName)) ∈ lw_all := lw_g (lw_at lw_m6 195 rfl) rfl
theorem q1525 : (Jvm.Cond.static ({ cls := "HookSwingsModel", name := "w4", desc := "(IIII)J" } : Jvm.MethodName)) ∈ lw_all := lw_g (lw_at lw_m6 196 rfl) rfl
theorem q1526 : (Jvm.Cond.code ({ cls := "HookSwingsModel", name := "w4", desc := "(IIII)J" } : Jvm.MethodName) prog_19_method_22_code (4 : Nat) (Option.some Jvm.ClassFile.FieldType.long)) ∈ lw_all := lw_g (lw_at lw_m6 197 rfl) rfl
theorem q1527 : (Jvm.Cond.methodLink "HookSwingsModel" (119 : Nat) ({ cls := "HookSwingsModel", name := "w3", desc := "(III)J" } : Jvm.MethodName)) ∈ lw_all := lw_g (lw_at lw_m6 198 rfl) rfl
theorem q1528 : (Jvm.Cond.static ({ cls := "HookSwingsModel", name := "w3", desc := "(III)J" } : Jvm.MethodName)) ∈ lw_all := lw_g (lw_at lw_m6 199 rfl) rfl
theorem q1529 : (Jvm.Cond.code ({ cls := "HookSwingsModel", name := "w3", desc := "(III)J" } : Jvm.MethodName) prog_19_method_21_code (3 : Nat) (Option.some Jvm.ClassFile.FieldType.long)) ∈ lw_all := lw_g (lw_at lw_m6 200 rfl) rfl
theorem q1530 : (Jvm.Cond.methodLink "HookSwingsModel" (115 : Nat) ({ cls := "HookSwingsModel", name := "w2", desc := "(II)J" } : Jvm.MethodName)) ∈ lw_all := lw_g (lw_at lw_m6 201 rfl) rfl
theorem q1531 : (Jvm.Cond.static ({ cls := "HookSwingsModel", name := "w2", desc := "(II)J" } : Jvm.MethodName)) ∈ lw_all := lw_g (lw_at lw_m6 202 rfl) rfl
theorem q1532 : (Jvm.Cond.code ({ cls := "HookSwingsModel", name := "w2", desc := "(II)J" } : Jvm.MethodName) prog_19_method_20_code (2 : Nat) (Option.some Jvm.ClassFile.FieldType.long)) ∈ lw_all := lw_g (lw_at lw_m6 203 rfl) rfl
theorem q1533 : (Jvm.Cond.methodLink "HookSwingsModel" (183 : Nat) ({ cls := "HookSwingsModel", name := "isWord", desc := "(J)Z" } : Jvm.MethodName)) ∈ lw_all := lw_g (lw_at lw_m6 204 rfl) rfl
theorem q1534 : (Jvm.Cond.privateMethod ({ cls := "HookSwingsModel", name := "isWord", desc := "(J)Z" } : Jvm.MethodName)) ∈ lw_tbl := lw_at lw_m6 205 rfl
theorem q1535 : (Jvm.Cond.instanceMethod ({ cls := "HookSwingsModel", name := "isWord", desc := "(J)Z" } : Jvm.MethodName)) ∈ lw_all := lw_g (lw_at lw_m6 206 rfl) rfl
theorem q1536 : (Jvm.Cond.code ({ cls := "HookSwingsModel", name := "isWord", desc := "(J)Z" } : Jvm.MethodName) prog_19_method_25_code (3 : Nat) (Option.some Jvm.ClassFile.FieldType.boolean)) ∈ lw_all := lw_g (lw_at lw_m6 207 rfl) rfl
theorem q1537 : (Jvm.Cond.methodLink "HookSwingsModel" (137 : Nat) ({ cls := "HookSwingsModel", name := "w6", desc := "(IIIIII)J" } : Jvm.MethodName)) ∈ lw_all := lw_g (lw_at lw_m6 208 rfl) rfl
theorem q1538 : (Jvm.Cond.static ({ cls := "HookSwingsModel", name := "w6", desc := "(IIIIII)J" } : Jvm.MethodName)) ∈ lw_all := lw_g (lw_at lw_m6 209 rfl) rfl
theorem q1539 : (Jvm.Cond.code ({ cls := "HookSwingsModel", name := "w6", desc := "(IIIIII)J" } : Jvm.MethodName) prog_19_method_24_code (6 : Nat) (Option.some Jvm.ClassFile.FieldType.long)) ∈ lw_all := lw_g (lw_at lw_m6 210 rfl) rfl
theorem q1540 : (Jvm.Cond.methodLink "HookSwingsModel" (241 : Nat) ({ cls := "HookSwingsModel", name := "has", desc := "(II)Z" } : Jvm.MethodName)) ∈ lw_all := lw_g (lw_at lw_m6 211 rfl) rfl
theorem q1541 : (Jvm.Cond.static ({ cls := "HookSwingsModel", name := "has", desc := "(II)Z" } : Jvm.MethodName)) ∈ lw_all := lw_g (lw_at lw_m6 212 rfl) rfl
theorem q1542 : (Jvm.Cond.code ({ cls := "HookSwingsModel", name := "has", desc := "(II)Z" } : Jvm.MethodName) prog_19_method_6_code (2 : Nat) (Option.some Jvm.ClassFile.FieldType.boolean)) ∈ lw_all := lw_g (lw_at lw_m6 213 rfl) rfl
theorem q1543 : (Jvm.Cond.methodLink "HookSwingsModel" (245 : Nat) ({ cls := "HookSwingsModel", name := "body", desc := "(II)I" } : Jvm.MethodName)) ∈ lw_all := lw_g (lw_at lw_m6 214 rfl) rfl
theorem q1544 : (Jvm.Cond.privateMethod ({ cls := "HookSwingsModel", name := "body", desc := "(II)I" } : Jvm.MethodName)) ∈ lw_tbl := lw_at lw_m6 215 rfl
theorem q1545 : (Jvm.Cond.instanceMethod ({ cls := "HookSwingsModel", name := "body", desc := "(II)I" } : Jvm.MethodName)) ∈ lw_all := lw_g (lw_at lw_m6 216 rfl) rfl
theorem q1546 : (Jvm.Cond.code ({ cls := "HookSwingsModel", name := "body", desc := "(II)I" } : Jvm.MethodName) prog_19_method_49_code (3 : Nat) (Option.some Jvm.ClassFile.FieldType.int)) ∈ lw_all := lw_g (lw_at lw_m6 217 rfl) rfl
theorem q1547 : (Jvm.Cond.methodLink "HookSwingsModel" (226 : Nat) ({ cls := "HookSwingsModel", name := "orderClause", desc := "(I)I" } : Jvm.MethodName)) ∈ lw_all := lw_g (lw_at lw_m6 218 rfl) rfl
theorem q1548 : (Jvm.Cond.privateMethod ({ cls := "HookSwingsModel", name := "orderClause", desc := "(I)I" } : Jvm.MethodName)) ∈ lw_tbl := lw_at lw_m6 219 rfl
theorem q1549 : (Jvm.Cond.instanceMethod ({ cls := "HookSwingsModel", name := "orderClause", desc := "(I)I" } : Jvm.MethodName)) ∈ lw_all := lw_g (lw_at lw_m6 220 rfl) rfl
theorem q1550 : (Jvm.Cond.code ({ cls := "HookSwingsModel", name := "orderClause", desc := "(I)I" } : Jvm.MethodName) prog_19_method_47_code (3 : Nat) (Option.some Jvm.ClassFile.FieldType.int)) ∈ lw_all := lw_g (lw_at lw_m6 221 rfl) rfl
theorem q1551 : (Jvm.Cond.methodLink "HookSwingsModel" (215 : Nat) ({ cls := "HookSwingsModel", name := "figure", desc := "(III)I" } : Jvm.MethodName)) ∈ lw_all := lw_g (lw_at lw_m6 222 rfl) rfl
theorem q1552 : (Jvm.Cond.privateMethod ({ cls := "HookSwingsModel", name := "figure", desc := "(III)I" } : Jvm.MethodName)) ∈ lw_tbl := lw_at lw_m6 223 rfl
theorem q1553 : (Jvm.Cond.instanceMethod ({ cls := "HookSwingsModel", name := "figure", desc := "(III)I" } : Jvm.MethodName)) ∈ lw_all := lw_g (lw_at lw_m6 224 rfl) rfl
theorem q1554 : (Jvm.Cond.code ({ cls := "HookSwingsModel", name := "figure", desc := "(III)I" } : Jvm.MethodName) prog_19_method_44_code (4 : Nat) (Option.some Jvm.ClassFile.FieldType.int)) ∈ lw_all := lw_g (lw_at lw_m6 225 rfl) rfl
theorem q1555 : (Jvm.Cond.methodLink "HookSwingsModel" (222 : Nat) ({ cls := "HookSwingsModel", name := "worded", desc := "(JIII)I" } : Jvm.MethodName)) ∈ lw_all := lw_g (lw_at lw_m6 226 rfl) rfl
theorem q1556 : (Jvm.Cond.privateMethod ({ cls := "HookSwingsModel", name := "worded", desc := "(JIII)I" } : Jvm.MethodName)) ∈ lw_tbl := lw_at lw_m6 227 rfl
theorem q1557 : (Jvm.Cond.instanceMethod ({ cls := "HookSwingsModel", name := "worded", desc := "(JIII)I" } : Jvm.MethodName)) ∈ lw_all := lw_g (lw_at lw_m6 228 rfl) rfl
theorem q1558 : (Jvm.Cond.code ({ cls := "HookSwingsModel", name := "worded", desc := "(JIII)I" } : Jvm.MethodName) prog_19_method_45_code (6 : Nat) (Option.some Jvm.ClassFile.FieldType.int)) ∈ lw_all := lw_g (lw_at lw_m6 229 rfl) rfl
theorem q1559 : (Jvm.Cond.methodLink "HookSwingsModel" (229 : Nat) ({ cls := "HookSwingsModel", name := "moveClause", desc := "(I)I" } : Jvm.MethodName)) ∈ lw_all := lw_g (lw_at lw_m6 230 rfl) rfl
theorem q1560 : (Jvm.Cond.privateMethod ({ cls := "HookSwingsModel", name := "moveClause", desc := "(I)I" } : Jvm.MethodName)) ∈ lw_tbl := lw_at lw_m6 231 rfl
theorem q1561 : (Jvm.Cond.instanceMethod ({ cls := "HookSwingsModel", name := "moveClause", desc := "(I)I" } : Jvm.MethodName)) ∈ lw_all := lw_g (lw_at lw_m6 232 rfl) rfl
theorem q1562 : (Jvm.Cond.code ({ cls := "HookSwingsModel", name := "moveClause", desc := "(I)I" } : Jvm.MethodName) prog_19_method_48_code (4 : Nat) (Option.some Jvm.ClassFile.FieldType.int)) ∈ lw_all := lw_g (lw_at lw_m6 233 rfl) rfl
theorem q1563 : (Jvm.Cond.methodLink "HookSwingsModel" (232 : Nat) ({ cls := "HookSwingsModel", name := "lawClause", desc := "(I)I" } : Jvm.MethodName)) ∈ lw_all := lw_g (lw_at lw_m6 234 rfl) rfl
theorem q1564 : (Jvm.Cond.privateMethod ({ cls := "HookSwingsModel", name := "lawClause", desc := "(I)I" } : Jvm.MethodName)) ∈ lw_tbl := lw_at lw_m6 235 rfl
theorem q1565 : (Jvm.Cond.instanceMethod ({ cls := "HookSwingsModel", name := "lawClause", desc := "(I)I" } : Jvm.MethodName)) ∈ lw_all := lw_g (lw_at lw_m6 236 rfl) rfl
theorem q1566 : (Jvm.Cond.code ({ cls := "HookSwingsModel", name := "lawClause", desc := "(I)I" } : Jvm.MethodName) prog_19_method_46_code (3 : Nat) (Option.some Jvm.ClassFile.FieldType.int)) ∈ lw_all := lw_g (lw_at lw_m6 237 rfl) rfl
theorem q1567 : (Jvm.Cond.methodLink "HookSwingsModel" (219 : Nat) ({ cls := "HookSwingsModel", name := "summed", desc := "()I" } : Jvm.MethodName)) ∈ lw_all := lw_g (lw_at lw_m6 238 rfl) rfl
theorem q1568 : (Jvm.Cond.privateMethod ({ cls := "HookSwingsModel", name := "summed", desc := "()I" } : Jvm.MethodName)) ∈ lw_tbl := lw_at lw_m6 239 rfl
theorem q1569 : (Jvm.Cond.instanceMethod ({ cls := "HookSwingsModel", name := "summed", desc := "()I" } : Jvm.MethodName)) ∈ lw_all := lw_g (lw_at lw_m7 0 rfl) rfl
theorem q1570 : (Jvm.Cond.code ({ cls := "HookSwingsModel", name := "summed", desc := "()I" } : Jvm.MethodName) prog_19_method_43_code (2 : Nat) (Option.some Jvm.ClassFile.FieldType.int)) ∈ lw_all := lw_g (lw_at lw_m7 1 rfl) rfl
theorem q1571 : (Jvm.Cond.methodLink "HookSwingsModel" (209 : Nat) ({ cls := "HookSwingsModel", name := "behindOne", desc := "()Z" } : Jvm.MethodName)) ∈ lw_all := lw_g (lw_at lw_m7 2 rfl) rfl
theorem q1572 : (Jvm.Cond.privateMethod ({ cls := "HookSwingsModel", name := "behindOne", desc := "()Z" } : Jvm.MethodName)) ∈ lw_tbl := lw_at lw_m7 3 rfl
theorem q1573 : (Jvm.Cond.instanceMethod ({ cls := "HookSwingsModel", name := "behindOne", desc := "()Z" } : Jvm.MethodName)) ∈ lw_all := lw_g (lw_at lw_m7 4 rfl) rfl
theorem q1574 : (Jvm.Cond.code ({ cls := "HookSwingsModel", name := "behindOne", desc := "()Z" } : Jvm.MethodName) prog_19_method_42_code (4 : Nat) (Option.some Jvm.ClassFile.FieldType.boolean)) ∈ lw_all := lw_g (lw_at lw_m7 5 rfl) rfl
theorem q1575 : (Jvm.Cond.methodLink "HookSwingsModel" (203 : Nat) ({ cls := "HookSwingsModel", name := "betweenOf", desc := "()I" } : Jvm.MethodName)) ∈ lw_all := lw_g (lw_at lw_m7 6 rfl) rfl
theorem q1576 : (Jvm.Cond.privateMethod ({ cls := "HookSwingsModel", name := "betweenOf", desc := "()I" } : Jvm.MethodName)) ∈ lw_tbl := lw_at lw_m7 7 rfl
theorem q1577 : (Jvm.Cond.instanceMethod ({ cls := "HookSwingsModel", name := "betweenOf", desc := "()I" } : Jvm.MethodName)) ∈ lw_all := lw_g (lw_at lw_m7 8 rfl) rfl
theorem q1578 : (Jvm.Cond.code ({ cls := "HookSwingsModel", name := "betweenOf", desc := "()I" } : Jvm.MethodName) prog_19_method_40_code (1 : Nat) (Option.some Jvm.ClassFile.FieldType.int)) ∈ lw_all := lw_g (lw_at lw_m7 9 rfl) rfl
theorem q1579 : (Jvm.Cond.methodLink "HookSwingsModel" (161 : Nat) ({ cls := "HookSwingsModel", name := "openNow", desc := "()I" } : Jvm.MethodName)) ∈ lw_all := lw_g (lw_at lw_m7 10 rfl) rfl
theorem q1580 : (Jvm.Cond.privateMethod ({ cls := "HookSwingsModel", name := "openNow", desc := "()I" } : Jvm.MethodName)) ∈ lw_tbl := lw_at lw_m7 11 rfl
theorem q1581 : (Jvm.Cond.instanceMethod ({ cls := "HookSwingsModel", name := "openNow", desc := "()I" } : Jvm.MethodName)) ∈ lw_all := lw_g (lw_at lw_m7 12 rfl) rfl
theorem q1582 : (Jvm.Cond.code ({ cls := "HookSwingsModel", name := "openNow", desc := "()I" } : Jvm.MethodName) prog_19_method_32_code (1 : Nat) (Option.some Jvm.ClassFile.FieldType.int)) ∈ lw_all := lw_g (lw_at lw_m7 13 rfl) rfl
theorem q1583 : (Jvm.Cond.methodLink "HookSwingsModel" (157 : Nat) ({ cls := "HookSwingsModel", name := "openAt", desc := "()I" } : Jvm.MethodName)) ∈ lw_all := lw_g (lw_at lw_m7 14 rfl) rfl
theorem q1584 : (Jvm.Cond.privateMethod ({ cls := "HookSwingsModel", name := "openAt", desc := "()I" } : Jvm.MethodName)) ∈ lw_tbl := lw_at lw_m7 15 rfl
theorem q1585 : (Jvm.Cond.instanceMethod ({ cls := "HookSwingsModel", name := "openAt", desc := "()I" } : Jvm.MethodName)) ∈ lw_all := lw_g (lw_at lw_m7 16 rfl) rfl
theorem q1586 : (Jvm.Cond.code ({ cls := "HookSwingsModel", name := "openAt", desc := "()I" } : Jvm.MethodName) prog_19_method_31_code (2 : Nat) (Option.some Jvm.ClassFile.FieldType.int)) ∈ lw_all := lw_g (lw_at lw_m7 17 rfl) rfl
theorem q1587 : (Jvm.Cond.methodLink "HookSwingsModel" (197 : Nat) ({ cls := "HookSwingsModel", name := "isCompared", desc := "()Z" } : Jvm.MethodName)) ∈ lw_all := lw_g (lw_at lw_m7 18 rfl) rfl
theorem q1588 : (Jvm.Cond.privateMethod ({ cls := "HookSwingsModel", name := "isCompared", desc := "()Z" } : Jvm.MethodName)) ∈ lw_tbl := lw_at lw_m7 19 rfl
theorem q1589 : (Jvm.Cond.instanceMethod ({ cls := "HookSwingsModel", name := "isCompared", desc := "()Z" } : Jvm.MethodName)) ∈ lw_all := lw_g (lw_at lw_m7 20 rfl) rfl
theorem q1590 : (Jvm.Cond.code ({ cls := "HookSwingsModel", name := "isCompared", desc := "()Z" } : Jvm.MethodName) prog_19_method_33_code (2 : Nat) (Option.some Jvm.ClassFile.FieldType.boolean)) ∈ lw_all := lw_g (lw_at lw_m7 21 rfl) rfl
theorem q1591 : (Jvm.Cond.methodLink "HookSwingsModel" (147 : Nat) ({ cls := "HookSwingsModel", name := "rank", desc := "(I)I" } : Jvm.MethodName)) ∈ lw_all := lw_g (lw_at lw_m7 22 rfl) rfl
theorem q1592 : (Jvm.Cond.static ({ cls := "HookSwingsModel", name := "rank", desc := "(I)I" } : Jvm.MethodName)) ∈ lw_all := lw_g (lw_at lw_m7 23 rfl) rfl
theorem q1593 : (Jvm.Cond.code ({ cls := "HookSwingsModel", name := "rank", desc := "(I)I" } : Jvm.MethodName) prog_19_method_29_code (1 : Nat) (Option.some Jvm.ClassFile.FieldType.int)) ∈ lw_all := lw_g (lw_at lw_m7 24 rfl) rfl
theorem q1594 : (Jvm.Cond.methodLink "HookSwingsModel" (200 : Nat) ({ cls := "HookSwingsModel", name := "compareOf", desc := "()I" } : Jvm.MethodName)) ∈ lw_all := lw_g (lw_at lw_m7 25 rfl) rfl
theorem q1595 : (Jvm.Cond.privateMethod ({ cls := "HookSwingsModel", name := "compareOf", desc := "()I" } : Jvm.MethodName)) ∈ lw_tbl := lw_at lw_m7 26 rfl
theorem q1596 : (Jvm.Cond.instanceMethod ({ cls := "HookSwingsModel", name := "compareOf", desc := "()I" } : Jvm.MethodName)) ∈ lw_all := lw_g (lw_at lw_m7 27 rfl) rfl
theorem q1597 : (Jvm.Cond.code ({ cls := "HookSwingsModel", name := "compareOf", desc := "()I" } : Jvm.MethodName) prog_19_method_39_code (1 : Nat) (Option.some Jvm.ClassFile.FieldType.int)) ∈ lw_all := lw_g (lw_at lw_m7 28 rfl) rfl
theorem q1598 : (Jvm.Cond.methodLink "HookSwingsModel" (171 : Nat) ({ cls := "HookSwingsModel", name := "settle", desc := "(I)V" } : Jvm.MethodName)) ∈ lw_all := lw_g (lw_at lw_m7 29 rfl) rfl
theorem q1599 : (Jvm.Cond.privateMethod ({ cls := "HookSwingsModel", name := "settle", desc := "(I)V" } : Jvm.MethodName)) ∈ lw_tbl := lw_at lw_m7 30 rfl
theorem q1600 : (Jvm.Cond.instanceMethod ({ cls := "HookSwingsModel", name := "settle", desc := "(I)V" } : Jvm.MethodName)) ∈ lw_all := lw_g (lw_at lw_m7 31 rfl) rfl
theorem q1601 : (Jvm.Cond.code ({ cls := "HookSwingsModel", name := "settle", desc := "(I)V" } : Jvm.MethodName) prog_19_method_30_code (2 : Nat) (Option.none : Option Jvm.ClassFile.FieldType)) ∈ lw_all := lw_g (lw_at lw_m7 32 rfl) rfl
theorem q1602 : (Jvm.Cond.methodLink "HookSwingsModel" (150 : Nat) ({ cls := "HookSwingsModel", name := "emit", desc := "(II)V" } : Jvm.MethodName)) ∈ lw_all := lw_g (lw_at lw_m7 33 rfl) rfl
theorem q1603 : (Jvm.Cond.privateMethod ({ cls := "HookSwingsModel", name := "emit", desc := "(II)V" } : Jvm.MethodName)) ∈ lw_tbl := lw_at lw_m7 34 rfl
theorem q1604 : (Jvm.Cond.instanceMethod ({ cls := "HookSwingsModel", name := "emit", desc := "(II)V" } : Jvm.MethodName)) ∈ lw_all := lw_g (lw_at lw_m7 35 rfl) rfl
theorem q1605 : (Jvm.Cond.code ({ cls := "HookSwingsModel", name := "emit", desc := "(II)V" } : Jvm.MethodName) prog_19_method_26_code (3 : Nat) (Option.none : Option Jvm.ClassFile.FieldType)) ∈ lw_all := lw_g (lw_at lw_m7 36 rfl) rfl
theorem q1606 : (Jvm.Cond.methodLink "HookSwingsModel" (206 : Nat) ({ cls := "HookSwingsModel", name := "partOf", desc := "(I)I" } : Jvm.MethodName)) ∈ lw_all := lw_g (lw_at lw_m7 37 rfl) rfl
theorem q1607 : (Jvm.Cond.privateMethod ({ cls := "HookSwingsModel", name := "partOf", desc := "(I)I" } : Jvm.MethodName)) ∈ lw_tbl := lw_at lw_m7 38 rfl
theorem q1608 : (Jvm.Cond.instanceMethod ({ cls := "HookSwingsModel", name := "partOf", desc := "(I)I" } : Jvm.MethodName)) ∈ lw_all := lw_g (lw_at lw_m7 39 rfl) rfl
theorem q1609 : (Jvm.Cond.code ({ cls := "HookSwingsModel", name := "partOf", desc := "(I)I" } : Jvm.MethodName) prog_19_method_41_code (2 : Nat) (Option.some Jvm.ClassFile.FieldType.int)) ∈ lw_all := lw_g (lw_at lw_m7 40 rfl) rfl
theorem q1610 : (Jvm.Cond.methodLink "HookSwingsModel" (212 : Nat) ({ cls := "HookSwingsModel", name := "beginOne", desc := "()I" } : Jvm.MethodName)) ∈ lw_all := lw_g (lw_at lw_m7 41 rfl) rfl
theorem q1611 : (Jvm.Cond.privateMethod ({ cls := "HookSwingsModel", name := "beginOne", desc := "()I" } : Jvm.MethodName)) ∈ lw_tbl := lw_at lw_m7 42 rfl
theorem q1612 : (Jvm.Cond.instanceMethod ({ cls := "HookSwingsModel", name := "beginOne", desc := "()I" } : Jvm.MethodName)) ∈ lw_all := lw_g (lw_at lw_m7 43 rfl) rfl
theorem q1613 : (Jvm.Cond.code ({ cls := "HookSwingsModel", name := "beginOne", desc := "()I" } : Jvm.MethodName) prog_19_method_38_code (2 : Nat) (Option.some Jvm.ClassFile.FieldType.int)) ∈ lw_all := lw_g (lw_at lw_m7 44 rfl) rfl
theorem q1614 : (Jvm.Cond.methodLink "HookSwingsModel" (174 : Nat) ({ cls := "HookSwingsModel", name := "nameOf", desc := "()I" } : Jvm.MethodName)) ∈ lw_all := lw_g (lw_at lw_m7 45 rfl) rfl
theorem q1615 : (Jvm.Cond.privateMethod ({ cls := "HookSwingsModel", name := "nameOf", desc := "()I" } : Jvm.MethodName)) ∈ lw_tbl := lw_at lw_m7 46 rfl
theorem q1616 : (Jvm.Cond.instanceMethod ({ cls := "HookSwingsModel", name := "nameOf", desc := "()I" } : Jvm.MethodName)) ∈ lw_all := lw_g (lw_at lw_m7 47 rfl) rfl
theorem q1617 : (Jvm.Cond.code ({ cls := "HookSwingsModel", name := "nameOf", desc := "()I" } : Jvm.MethodName) prog_19_method_27_code (1 : Nat) (Option.some Jvm.ClassFile.FieldType.int)) ∈ lw_all := lw_g (lw_at lw_m7 48 rfl) rfl
theorem q1618 : (Jvm.Cond.methodLink "HookSwingsModel" (177 : Nat) ({ cls := "HookSwingsModel", name := "isOf", desc := "(I)Z" } : Jvm.MethodName)) ∈ lw_all := lw_g (lw_at lw_m7 49 rfl) rfl
theorem q1619 : (Jvm.Cond.privateMethod ({ cls := "HookSwingsModel", name := "isOf", desc := "(I)Z" } : Jvm.MethodName)) ∈ lw_tbl := lw_at lw_m7 50 rfl
theorem q1620 : (Jvm.Cond.instanceMethod ({ cls := "HookSwingsModel", name := "isOf", desc := "(I)Z" } : Jvm.MethodName)) ∈ lw_all := lw_g (lw_at lw_m7 51 rfl) rfl
theorem q1621 : (Jvm.Cond.code ({ cls := "HookSwingsModel", name := "isOf", desc := "(I)Z" } : Jvm.MethodName) prog_19_method_28_code (2 : Nat) (Option.some Jvm.ClassFile.FieldType.boolean)) ∈ lw_all := lw_g (lw_at lw_m7 52 rfl) rfl
theorem q1622 : (Jvm.Cond.methodLink "HookSwingsModel" (180 : Nat) ({ cls := "HookSwingsModel", name := "one", desc := "(II)V" } : Jvm.MethodName)) ∈ lw_all := lw_g (lw_at lw_m7 53 rfl) rfl
theorem q1623 : (Jvm.Cond.privateMethod ({ cls := "HookSwingsModel", name := "one", desc := "(II)V" } : Jvm.MethodName)) ∈ lw_tbl := lw_at lw_m7 54 rfl
theorem q1624 : (Jvm.Cond.instanceMethod ({ cls := "HookSwingsModel", name := "one", desc := "(II)V" } : Jvm.MethodName)) ∈ lw_all := lw_g (lw_at lw_m7 55 rfl) rfl
theorem q1625 : (Jvm.Cond.code ({ cls := "HookSwingsModel", name := "one", desc := "(II)V" } : Jvm.MethodName) prog_19_method_36_code (3 : Nat) (Option.none : Option Jvm.ClassFile.FieldType)) ∈ lw_all := lw_g (lw_at lw_m7 56 rfl) rfl
theorem q1626 : (Jvm.Cond.methodLink "HookSwingsModel" (187 : Nat) ({ cls := "HookSwingsModel", name := "agoOne", desc := "()I" } : Jvm.MethodName)) ∈ lw_all := lw_g (lw_at lw_m7 57 rfl) rfl
theorem q1627 : (Jvm.Cond.privateMethod ({ cls := "HookSwingsModel", name := "agoOne", desc := "()I" } : Jvm.MethodName)) ∈ lw_tbl := lw_at lw_m7 58 rfl
theorem q1628 : (Jvm.Cond.instanceMethod ({ cls := "HookSwingsModel", name := "agoOne", desc := "()I" } : Jvm.MethodName)) ∈ lw_all := lw_g (lw_at lw_m7 59 rfl) rfl
theorem q1629 : (Jvm.Cond.code ({ cls := "HookSwingsModel", name := "agoOne", desc := "()I" } : Jvm.MethodName) prog_19_method_37_code (3 : Nat) (Option.some Jvm.ClassFile.FieldType.int)) ∈ lw_all := lw_g (lw_at lw_m7 60 rfl) rfl
theorem q1630 : (Jvm.Cond.methodLink "HookSwingsModel" (190 : Nat) ({ cls := "HookSwingsModel", name := "opened", desc := "(I)I" } : Jvm.MethodName)) ∈ lw_all := lw_g (lw_at lw_m7 61 rfl) rfl
theorem q1631 : (Jvm.Cond.privateMethod ({ cls := "HookSwingsModel", name := "opened", desc := "(I)I" } : Jvm.MethodName)) ∈ lw_tbl := lw_at lw_m7 62 rfl
theorem q1632 : (Jvm.Cond.instanceMethod ({ cls := "HookSwingsModel", name := "opened", desc := "(I)I" } : Jvm.MethodName)) ∈ lw_all := lw_g (lw_at lw_m7 63 rfl) rfl
theorem q1633 : (Jvm.Cond.code ({ cls := "HookSwingsModel", name := "opened", desc := "(I)I" } : Jvm.MethodName) prog_19_method_35_code (2 : Nat) (Option.some Jvm.ClassFile.FieldType.int)) ∈ lw_all := lw_g (lw_at lw_m7 64 rfl) rfl
theorem q1634 : (Jvm.Cond.methodLink "HookSwingsModel" (193 : Nat) ({ cls := "HookSwingsModel", name := "isAskAhead", desc := "()Z" } : Jvm.MethodName)) ∈ lw_all := lw_g (lw_at lw_m7 65 rfl) rfl
theorem q1635 : (Jvm.Cond.privateMethod ({ cls := "HookSwingsModel", name := "isAskAhead", desc := "()Z" } : Jvm.MethodName)) ∈ lw_tbl := lw_at lw_m7 66 rfl
theorem q1636 : (Jvm.Cond.instanceMethod ({ cls := "HookSwingsModel", name := "isAskAhead", desc := "()Z" } : Jvm.MethodName)) ∈ lw_all := lw_g (lw_at lw_m7 67 rfl) rfl
theorem q1637 : (Jvm.Cond.code ({ cls := "HookSwingsModel", name := "isAskAhead", desc := "()Z" } : Jvm.MethodName) prog_19_method_34_code (1 : Nat) (Option.some Jvm.ClassFile.FieldType.boolean)) ∈ lw_all := lw_g (lw_at lw_m7 68 rfl) rfl
theorem q1639 : (Jvm.Cond.instanceMethod ({ cls := "HookSwingsModel", name := "fault", desc := "(I)I" } : Jvm.MethodName)) ∈ lw_all := lw_g (lw_at lw_m7 70 rfl) rfl
theorem q1640 : (Jvm.Cond.selects "HookSwingsModel" ({ cls := "HookSwingsModel", name := "fault", desc := "(I)I" } : Jvm.MethodName) ({ cls := "HookSwingsModel", name := "fault", desc := "(I)I" } : Jvm.MethodName)) ∈ lw_all := lw_g (lw_at lw_m7 71 rfl) rfl
theorem q1641 : (Jvm.Cond.code ({ cls := "HookSwingsModel", name := "fault", desc := "(I)I" } : Jvm.MethodName) prog_19_method_54_code (2 : Nat) (Option.some Jvm.ClassFile.FieldType.int)) ∈ lw_all := lw_g (lw_at lw_m7 72 rfl) rfl
theorem q1643 : (Jvm.Cond.instanceMethod ({ cls := "HookSwingsModel", name := "by", desc := "(I)Z" } : Jvm.MethodName)) ∈ lw_all := lw_g (lw_at lw_m7 74 rfl) rfl
theorem q1644 : (Jvm.Cond.selects "HookSwingsModel" ({ cls := "HookSwingsModel", name := "by", desc := "(I)Z" } : Jvm.MethodName) ({ cls := "HookSwingsModel", name := "by", desc := "(I)Z" } : Jvm.MethodName)) ∈ lw_all := lw_g (lw_at lw_m7 75 rfl) rfl
theorem q1645 : (Jvm.Cond.code ({ cls := "HookSwingsModel", name := "by", desc := "(I)Z" } : Jvm.MethodName) prog_19_method_55_code (2 : Nat) (Option.some Jvm.ClassFile.FieldType.boolean)) ∈ lw_all := lw_g (lw_at lw_m7 76 rfl) rfl
theorem q1647 : (Jvm.Cond.instanceMethod ({ cls := "HookSwingsModel", name := "undo", desc := "()I" } : Jvm.MethodName)) ∈ lw_all := lw_g (lw_at lw_m7 78 rfl) rfl
theorem q1648 : (Jvm.Cond.selects "HookSwingsModel" ({ cls := "HookSwingsModel", name := "undo", desc := "()I" } : Jvm.MethodName) ({ cls := "HookSwingsModel", name := "undo", desc := "()I" } : Jvm.MethodName)) ∈ lw_all := lw_g (lw_at lw_m7 79 rfl) rfl
theorem q1649 : (Jvm.Cond.code ({ cls := "HookSwingsModel", name := "undo", desc := "()I" } : Jvm.MethodName) prog_19_method_76_code (3 : Nat) (Option.some Jvm.ClassFile.FieldType.int)) ∈ lw_all := lw_g (lw_at lw_m7 80 rfl) rfl
theorem q1651 : (Jvm.Cond.instanceMethod ({ cls := "HookSwingsModel", name := "move", desc := "(I)I" } : Jvm.MethodName)) ∈ lw_all := lw_g (lw_at lw_m7 82 rfl) rfl
theorem q1652 : (Jvm.Cond.selects "HookSwingsModel" ({ cls := "HookSwingsModel", name := "move", desc := "(I)I" } : Jvm.MethodName) ({ cls := "HookSwingsModel", name := "move", desc := "(I)I" } : Jvm.MethodName)) ∈ lw_all := lw_g (lw_at lw_m7 83 rfl) rfl
theorem q1653 : (Jvm.Cond.code ({ cls := "HookSwingsModel", name := "move", desc := "(I)I" } : Jvm.MethodName) prog_19_method_78_code (2 : Nat) (Option.some Jvm.ClassFile.FieldType.int)) ∈ lw_all := lw_g (lw_at lw_m7 84 rfl) rfl
theorem q1654 : (Jvm.Cond.methodLink "HookSwingsModel" (335 : Nat) ({ cls := "HookSwingsModel", name := "isTenth", desc := "(I)Z" } : Jvm.MethodName)) ∈ lw_all := lw_g (lw_at lw_m7 85 rfl) rfl
theorem q1655 : (Jvm.Cond.privateMethod ({ cls := "HookSwingsModel", name := "isTenth", desc := "(I)Z" } : Jvm.MethodName)) ∈ lw_tbl := lw_at lw_m7 86 rfl
theorem q1656 : (Jvm.Cond.instanceMethod ({ cls := "HookSwingsModel", name := "isTenth", desc := "(I)Z" } : Jvm.MethodName)) ∈ lw_all := lw_g (lw_at lw_m7 87 rfl) rfl
theorem q1657 : (Jvm.Cond.code ({ cls := "HookSwingsModel", name := "isTenth", desc := "(I)Z" } : Jvm.MethodName) prog_19_method_77_code (2 : Nat) (Option.some Jvm.ClassFile.FieldType.boolean)) ∈ lw_all := lw_g (lw_at lw_m7 88 rfl) rfl
theorem q1658 : (Jvm.Cond.methodLink "HookSwingsModel" (329 : Nat) ({ cls := "HookSwingsModel", name := "keep", desc := "()V" } : Jvm.MethodName)) ∈ lw_all := lw_g (lw_at lw_m7 89 rfl) rfl
theorem q1659 : (Jvm.Cond.privateMethod ({ cls := "HookSwingsModel", name := "keep", desc := "()V" } : Jvm.MethodName)) ∈ lw_tbl := lw_at lw_m7 90 rfl
theorem q1660 : (Jvm.Cond.instanceMethod ({ cls := "HookSwingsModel", name := "keep", desc := "()V" } : Jvm.MethodName)) ∈ lw_all := lw_g (lw_at lw_m7 91 rfl) rfl
theorem q1661 : (Jvm.Cond.code ({ cls := "HookSwingsModel", name := "keep", desc := "()V" } : Jvm.MethodName) prog_19_method_75_code (3 : Nat) (Option.none : Option Jvm.ClassFile.FieldType)) ∈ lw_all := lw_g (lw_at lw_m7 92 rfl) rfl
theorem q1662 : (Jvm.Cond.methodLink "HookSwingsModel" (295 : Nat) ({ cls := "HookSwingsModel", name := "get", desc := "(II)I" } : Jvm.MethodName)) ∈ lw_all := lw_g (lw_at lw_m7 93 rfl) rfl
theorem q1663 : (Jvm.Cond.privateMethod ({ cls := "HookSwingsModel", name := "get", desc := "(II)I" } : Jvm.MethodName)) ∈ lw_tbl := lw_at lw_m7 94 rfl
theorem q1664 : (Jvm.Cond.instanceMethod ({ cls := "HookSwingsModel", name := "get", desc := "(II)I" } : Jvm.MethodName)) ∈ lw_all := lw_g (lw_at lw_m7 95 rfl) rfl
theorem q1665 : (Jvm.Cond.code ({ cls := "HookSwingsModel", name := "get", desc := "(II)I" } : Jvm.MethodName) prog_19_method_9_code (3 : Nat) (Option.some Jvm.ClassFile.FieldType.int)) ∈ lw_all := lw_g (lw_at lw_m7 96 rfl) rfl
theorem q1666 : (Jvm.Cond.methodLink "HookSwingsModel" (332 : Nat) ({ cls := "HookSwingsModel", name := "pass", desc := "(I)V" } : Jvm.MethodName)) ∈ lw_all := lw_g (lw_at lw_m7 97 rfl) rfl
theorem q1667 : (Jvm.Cond.privateMethod ({ cls := "HookSwingsModel", name := "pass", desc := "(I)V" } : Jvm.MethodName)) ∈ lw_tbl := lw_at lw_m7 98 rfl
theorem q1668 : (Jvm.Cond.instanceMethod ({ cls := "HookSwingsModel", name := "pass", desc := "(I)V" } : Jvm.MethodName)) ∈ lw_all := lw_g (lw_at lw_m7 99 rfl) rfl
theorem q1669 : (Jvm.Cond.code ({ cls := "HookSwingsModel", name := "pass", desc := "(I)V" } : Jvm.MethodName) prog_19_method_72_code (3 : Nat) (Option.none : Option Jvm.ClassFile.FieldType)) ∈ lw_all := lw_g (lw_at lw_m7 100 rfl) rfl
theorem q1670 : (Jvm.Cond.methodLink "HookSwingsModel" (311 : Nat) ({ cls := "HookSwingsModel", name := "layPast", desc := "(I)V" } : Jvm.MethodName)) ∈ lw_all := lw_g (lw_at lw_m7 101 rfl) rfl
theorem q1671 : (Jvm.Cond.privateMethod ({ cls := "HookSwingsModel", name := "layPast", desc := "(I)V" } : Jvm.MethodName)) ∈ lw_tbl := lw_at lw_m7 102 rfl
theorem q1672 : (Jvm.Cond.instanceMethod ({ cls := "HookSwingsModel", name := "layPast", desc := "(I)V" } : Jvm.MethodName)) ∈ lw_all := lw_g (lw_at lw_m7 103 rfl) rfl
theorem q1673 : (Jvm.Cond.code ({ cls := "HookSwingsModel", name := "layPast", desc := "(I)V" } : Jvm.MethodName) prog_19_method_71_code (3 : Nat) (Option.none : Option Jvm.ClassFile.FieldType)) ∈ lw_all := lw_g (lw_at lw_m7 104 rfl) rfl
theorem q1674 : (Jvm.Cond.methodLink "HookSwingsModel" (292 : Nat) ({ cls := "HookSwingsModel", name := "away", desc := "()I" } : Jvm.MethodName)) ∈ lw_all := lw_g (lw_at lw_m7 105 rfl) rfl
theorem q1675 : (Jvm.Cond.privateMethod ({ cls := "HookSwingsModel", name := "away", desc := "()I" } : Jvm.MethodName)) ∈ lw_tbl := lw_at lw_m7 106 rfl
theorem q1676 : (Jvm.Cond.instanceMethod ({ cls := "HookSwingsModel", name := "away", desc := "()I" } : Jvm.MethodName)) ∈ lw_all := lw_g (lw_at lw_m7 107 rfl) rfl
theorem q1677 : (Jvm.Cond.code ({ cls := "HookSwingsModel", name := "away", desc := "()I" } : Jvm.MethodName) prog_19_method_64_code (1 : Nat) (Option.some Jvm.ClassFile.FieldType.int)) ∈ lw_all := lw_g (lw_at lw_m7 108 rfl) rfl
theorem q1678 : (Jvm.Cond.methodLink "HookSwingsModel" (314 : Nat) ({ cls := "HookSwingsModel", name := "nameNow", desc := "()V" } : Jvm.MethodName)) ∈ lw_all := lw_g (lw_at lw_m7 109 rfl) rfl
theorem q1679 : (Jvm.Cond.privateMethod ({ cls := "HookSwingsModel", name := "nameNow", desc := "()V" } : Jvm.MethodName)) ∈ lw_tbl := lw_at lw_m7 110 rfl
theorem q1680 : (Jvm.Cond.instanceMethod ({ cls := "HookSwingsModel", name := "nameNow", desc := "()V" } : Jvm.MethodName)) ∈ lw_all := lw_g (lw_at lw_m7 111 rfl) rfl
theorem q1681 : (Jvm.Cond.code ({ cls := "HookSwingsModel", name := "nameNow", desc := "()V" } : Jvm.MethodName) prog_19_method_65_code (1 : Nat) (Option.none : Option Jvm.ClassFile.FieldType)) ∈ lw_all := lw_g (lw_at lw_m7 112 rfl) rfl
theorem q1682 : (Jvm.Cond.methodLink "HookSwingsModel" (298 : Nat) ({ cls := "HookSwingsModel", name := "says", desc := "(IIII)I" } : Jvm.MethodName)) ∈ lw_all := lw_g (lw_at lw_m7 113 rfl) rfl
theorem q1683 : (Jvm.Cond.privateMethod ({ cls := "HookSwingsModel", name := "says", desc := "(IIII)I" } : Jvm.MethodName)) ∈ lw_tbl := lw_at lw_m7 114 rfl
theorem q1684 : (Jvm.Cond.instanceMethod ({ cls := "HookSwingsModel", name := "says", desc := "(IIII)I" } : Jvm.MethodName)) ∈ lw_all := lw_g (lw_at lw_m7 115 rfl) rfl
theorem q1685 : (Jvm.Cond.code ({ cls := "HookSwingsModel", name := "says", desc := "(IIII)I" } : Jvm.MethodName) prog_19_method_63_code (6 : Nat) (Option.some Jvm.ClassFile.FieldType.int)) ∈ lw_all := lw_g (lw_at lw_m7 116 rfl) rfl
theorem q1686 : (Jvm.Cond.methodLink "HookSwingsModel" (283 : Nat) ({ cls := "HookSwingsModel", name := "clauseOf", desc := "(II)I" } : Jvm.MethodName)) ∈ lw_all := lw_g (lw_at lw_m7 117 rfl) rfl
theorem q1687 : (Jvm.Cond.privateMethod ({ cls := "HookSwingsModel", name := "clauseOf", desc := "(II)I" } : Jvm.MethodName)) ∈ lw_tbl := lw_at lw_m7 118 rfl
theorem q1688 : (Jvm.Cond.instanceMethod ({ cls := "HookSwingsModel", name := "clauseOf", desc := "(II)I" } : Jvm.MethodName)) ∈ lw_all := lw_g (lw_at lw_m7 119 rfl) rfl
theorem q1689 : (Jvm.Cond.code ({ cls := "HookSwingsModel", name := "clauseOf", desc := "(II)I" } : Jvm.MethodName) prog_19_method_62_code (4 : Nat) (Option.some Jvm.ClassFile.FieldType.int)) ∈ lw_all := lw_g (lw_at lw_m7 120 rfl) rfl
theorem q1690 : (Jvm.Cond.methodLink "HookSwingsModel" (286 : Nat) ({ cls := "HookSwingsModel", name := "worked", desc := "(II)I" } : Jvm.MethodName)) ∈ lw_all := lw_g (lw_at lw_m7 121 rfl) rfl
theorem q1691 : (Jvm.Cond.privateMethod ({ cls := "HookSwingsModel", name := "worked", desc := "(II)I" } : Jvm.MethodName)) ∈ lw_tbl := lw_at lw_m7 122 rfl
theorem q1692 : (Jvm.Cond.instanceMethod ({ cls := "HookSwingsModel", name := "worked", desc := "(II)I" } : Jvm.MethodName)) ∈ lw_all := lw_g (lw_at lw_m7 123 rfl) rfl
theorem q1693 : (Jvm.Cond.code ({ cls := "HookSwingsModel", name := "worked", desc := "(II)I" } : Jvm.MethodName) prog_19_method_61_code (10 : Nat) (Option.some Jvm.ClassFile.FieldType.int)) ∈ lw_all := lw_g (lw_at lw_m7 124 rfl) rfl
theorem q1694 : (Jvm.Cond.methodLink "HookSwingsModel" (272 : Nat) ({ cls := "HookSwingsModel", name := "agoOf", desc := "(II)I" } : Jvm.MethodName)) ∈ lw_all := lw_g (lw_at lw_m7 125 rfl) rfl
theorem q1695 : (Jvm.Cond.privateMethod ({ cls := "HookSwingsModel", name := "agoOf", desc := "(II)I" } : Jvm.MethodName)) ∈ lw_tbl := lw_at lw_m7 126 rfl
theorem q1696 : (Jvm.Cond.instanceMethod ({ cls := "HookSwingsModel", name := "agoOf", desc := "(II)I" } : Jvm.MethodName)) ∈ lw_all := lw_g (lw_at lw_m7 127 rfl) rfl
theorem q1697 : (Jvm.Cond.code ({ cls := "HookSwingsModel", name := "agoOf", desc := "(II)I" } : Jvm.MethodName) prog_19_method_60_code (3 : Nat) (Option.some Jvm.ClassFile.FieldType.int)) ∈ lw_all := lw_g (lw_at lw_m7 128 rfl) rfl
theorem q1698 : (Jvm.Cond.methodLink "HookSwingsModel" (269 : Nat) ({ cls := "HookSwingsModel", name := "pastOf", desc := "(II)I" } : Jvm.MethodName)) ∈ lw_all := lw_g (lw_at lw_m7 129 rfl) rfl
theorem q1699 : (Jvm.Cond.privateMethod ({ cls := "HookSwingsModel", name := "pastOf", desc := "(II)I" } : Jvm.MethodName)) ∈ lw_tbl := lw_at lw_m7 130 rfl
theorem q1700 : (Jvm.Cond.instanceMethod ({ cls := "HookSwingsModel", name := "pastOf", desc := "(II)I" } : Jvm.MethodName)) ∈ lw_all := lw_g (lw_at lw_m7 131 rfl) rfl
theorem q1701 : (Jvm.Cond.code ({ cls := "HookSwingsModel", name := "pastOf", desc := "(II)I" } : Jvm.MethodName) prog_19_method_59_code (3 : Nat) (Option.some Jvm.ClassFile.FieldType.int)) ∈ lw_all := lw_g (lw_at lw_m7 132 rfl) rfl
theorem q1702 : (Jvm.Cond.methodLink "HookSwingsModel" (275 : Nat) ({ cls := "HookSwingsModel", name := "two", desc := "(IJJ)J" } : Jvm.MethodName)) ∈ lw_all := lw_g (lw_at lw_m7 133 rfl) rfl
theorem q1703 : (Jvm.Cond.static ({ cls := "HookSwingsModel", name := "two", desc := "(IJJ)J" } : Jvm.MethodName)) ∈ lw_all := lw_g (lw_at lw_m7 134 rfl) rfl
theorem q1704 : (Jvm.Cond.code ({ cls := "HookSwingsModel", name := "two", desc := "(IJJ)J" } : Jvm.MethodName) prog_19_method_57_code (5 : Nat) (Option.some Jvm.ClassFile.FieldType.long)) ∈ lw_all := lw_g (lw_at lw_m7 135 rfl) rfl
theorem q1705 : (Jvm.Cond.methodLink "HookSwingsModel" (259 : Nat) ({ cls := "HookSwingsModel", name := "clip", desc := "(J)J" } : Jvm.MethodName)) ∈ lw_all := lw_g (lw_at lw_m7 136 rfl) rfl
theorem q1706 : (Jvm.Cond.static ({ cls := "HookSwingsModel", name := "clip", desc := "(J)J" } : Jvm.MethodName)) ∈ lw_all := lw_g (lw_at lw_m7 137 rfl) rfl
theorem q1707 : (Jvm.Cond.code ({ cls := "HookSwingsModel", name := "clip", desc := "(J)J" } : Jvm.MethodName) prog_19_method_56_code (2 : Nat) (Option.some Jvm.ClassFile.FieldType.long)) ∈ lw_all := lw_g (lw_at lw_m7 138 rfl) rfl
theorem q1708 : (Jvm.Cond.constantLong "HookSwingsModel" (255 : Nat) (1000000 : Int64)) ∈ lw_all := lw_g (lw_at lw_m7 139 rfl) rfl
theorem q1709 : (Jvm.Cond.constantLong "HookSwingsModel" (257 : Nat) (-1000000 : Int64)) ∈ lw_all := lw_g (lw_at lw_m7 140 rfl) rfl
theorem q1710 : (Jvm.Cond.methodLink "HookSwingsModel" (279 : Nat) ({ cls := "HookSwingsModel", name := "isAsked", desc := "(IJJ)Z" } : Jvm.MethodName)) ∈ lw_all := lw_g (lw_at lw_m7 141 rfl) rfl
theorem q1711 : (Jvm.Cond.static ({ cls := "HookSwingsModel", name := "isAsked", desc := "(IJJ)Z" } : Jvm.MethodName)) ∈ lw_all := lw_g (lw_at lw_m7 142 rfl) rfl
theorem q1712 : (Jvm.Cond.code ({ cls := "HookSwingsModel", name := "isAsked", desc := "(IJJ)Z" } : Jvm.MethodName) prog_19_method_58_code (5 : Nat) (Option.some Jvm.ClassFile.FieldType.boolean)) ∈ lw_all := lw_g (lw_at lw_m7 143 rfl) rfl
theorem q1713 : (Jvm.Cond.methodLink "HookSwingsModel" (289 : Nat) ({ cls := "HookSwingsModel", name := "cut", desc := "(III)I" } : Jvm.MethodName)) ∈ lw_all := lw_g (lw_at lw_m7 144 rfl) rfl
theorem q1714 : (Jvm.Cond.static ({ cls := "HookSwingsModel", name := "cut", desc := "(III)I" } : Jvm.MethodName)) ∈ lw_all := lw_g (lw_at lw_m7 145 rfl) rfl
theorem q1715 : (Jvm.Cond.code ({ cls := "HookSwingsModel", name := "cut", desc := "(III)I" } : Jvm.MethodName) prog_19_method_4_code (3 : Nat) (Option.some Jvm.ClassFile.FieldType.int)) ∈ lw_all := lw_g (lw_at lw_m7 146 rfl) rfl
theorem q1716 : (Jvm.Cond.methodLink "HookSwingsModel" (320 : Nat) ({ cls := "HookSwingsModel", name := "drawn", desc := "(I)I" } : Jvm.MethodName)) ∈ lw_all := lw_g (lw_at lw_m7 147 rfl) rfl
theorem q1717 : (Jvm.Cond.privateMethod ({ cls := "HookSwingsModel", name := "drawn", desc := "(I)I" } : Jvm.MethodName)) ∈ lw_tbl := lw_at lw_m7 148 rfl
theorem q1718 : (Jvm.Cond.instanceMethod ({ cls := "HookSwingsModel", name := "drawn", desc := "(I)I" } : Jvm.MethodName)) ∈ lw_all := lw_g (lw_at lw_m7 149 rfl) rfl
theorem q1719 : (Jvm.Cond.code ({ cls := "HookSwingsModel", name := "drawn", desc := "(I)I" } : Jvm.MethodName) prog_19_method_69_code (3 : Nat) (Option.some Jvm.ClassFile.FieldType.int)) ∈ lw_all := lw_g (lw_at lw_m7 150 rfl) rfl
theorem q1720 : (Jvm.Cond.methodLink "HookSwingsModel" (302 : Nat) ({ cls := "HookSwingsModel", name := "anew", desc := "()V" } : Jvm.MethodName)) ∈ lw_all := lw_g (lw_at lw_m7 151 rfl) rfl
theorem q1721 : (Jvm.Cond.privateMethod ({ cls := "HookSwingsModel", name := "anew", desc := "()V" } : Jvm.MethodName)) ∈ lw_tbl := lw_at lw_m7 152 rfl
theorem q1722 : (Jvm.Cond.instanceMethod ({ cls := "HookSwingsModel", name := "anew", desc := "()V" } : Jvm.MethodName)) ∈ lw_all := lw_g (lw_at lw_m7 153 rfl) rfl
theorem q1723 : (Jvm.Cond.code ({ cls := "HookSwingsModel", name := "anew", desc := "()V" } : Jvm.MethodName) prog_19_method_70_code (1 : Nat) (Option.none : Option Jvm.ClassFile.FieldType)) ∈ lw_all := lw_g (lw_at lw_m7 154 rfl) rfl
theorem q1724 : (Jvm.Cond.constantLong "HookSwingsModel" (305 : Nat) (263 : Int64)) ∈ lw_all := lw_g (lw_at lw_m7 155 rfl) rfl
theorem q1725 : (Jvm.Cond.constantLong "HookSwingsModel" (307 : Nat) (157 : Int64)) ∈ lw_all := lw_g (lw_at lw_m7 156 rfl) rfl
theorem q1726 : (Jvm.Cond.constantLong "HookSwingsModel" (309 : Nat) (30253 : Int64)) ∈ lw_all := lw_g (lw_at lw_m7 157 rfl) rfl
theorem q1728 : (Jvm.Cond.instanceMethod ({ cls := "HookSwingsModel", name := "run", desc := "(I)I" } : Jvm.MethodName)) ∈ lw_all := lw_g (lw_at lw_m7 159 rfl) rfl
theorem q1729 : (Jvm.Cond.selects "HookSwingsModel" ({ cls := "HookSwingsModel", name := "run", desc := "(I)I" } : Jvm.MethodName) ({ cls := "HookSwingsModel", name := "run", desc := "(I)I" } : Jvm.MethodName)) ∈ lw_all := lw_g (lw_at lw_m7 160 rfl) rfl
theorem q1730 : (Jvm.Cond.code ({ cls := "HookSwingsModel", name := "run", desc := "(I)I" } : Jvm.MethodName) prog_19_method_80_code (2 : Nat) (Option.some Jvm.ClassFile.FieldType.int)) ∈ lw_all := lw_g (lw_at lw_m7 161 rfl) rfl
theorem q1731 : (Jvm.Cond.methodLink "HookSwingsModel" (341 : Nat) ({ cls := "HookSwingsModel", name := "areRun", desc := "(I)Z" } : Jvm.MethodName)) ∈ lw_all := lw_g (lw_at lw_m7 162 rfl) rfl
theorem q1732 : (Jvm.Cond.privateMethod ({ cls := "HookSwingsModel", name := "areRun", desc := "(I)Z" } : Jvm.MethodName)) ∈ lw_tbl := lw_at lw_m7 163 rfl
theorem q1733 : (Jvm.Cond.instanceMethod ({ cls := "HookSwingsModel", name := "areRun", desc := "(I)Z" } : Jvm.MethodName)) ∈ lw_all := lw_g (lw_at lw_m7 164 rfl) rfl
theorem q1734 : (Jvm.Cond.code ({ cls := "HookSwingsModel", name := "areRun", desc := "(I)Z" } : Jvm.MethodName) prog_19_method_79_code (3 : Nat) (Option.some Jvm.ClassFile.FieldType.boolean)) ∈ lw_all := lw_g (lw_at lw_m7 165 rfl) rfl
theorem q1735 : (Jvm.Cond.methodLink "HookSwingsModel" (338 : Nat) ({ cls := "HookSwingsModel", name := "commandNow", desc := "(I)I" } : Jvm.MethodName)) ∈ lw_all := lw_g (lw_at lw_m7 166 rfl) rfl
theorem q1736 : (Jvm.Cond.privateMethod ({ cls := "HookSwingsModel", name := "commandNow", desc := "(I)I" } : Jvm.MethodName)) ∈ lw_tbl := lw_at lw_m7 167 rfl
theorem q1737 : (Jvm.Cond.instanceMethod ({ cls := "HookSwingsModel", name := "commandNow", desc := "(I)I" } : Jvm.MethodName)) ∈ lw_all := lw_g (lw_at lw_m7 168 rfl) rfl
theorem q1738 : (Jvm.Cond.code ({ cls := "HookSwingsModel", name := "commandNow", desc := "(I)I" } : Jvm.MethodName) prog_19_method_74_code (2 : Nat) (Option.some Jvm.ClassFile.FieldType.int)) ∈ lw_all := lw_g (lw_at lw_m7 169 rfl) rfl
theorem q1739 : (Jvm.Cond.methodLink "HookSwingsModel" (326 : Nat) ({ cls := "HookSwingsModel", name := "commandBy", desc := "(I)I" } : Jvm.MethodName)) ∈ lw_all := lw_g (lw_at lw_m7 170 rfl) rfl
theorem q1740 : (Jvm.Cond.privateMethod ({ cls := "HookSwingsModel", name := "commandBy", desc := "(I)I" } : Jvm.MethodName)) ∈ lw_tbl := lw_at lw_m7 171 rfl
theorem q1741 : (Jvm.Cond.instanceMethod ({ cls := "HookSwingsModel", name := "commandBy", desc := "(I)I" } : Jvm.MethodName)) ∈ lw_all := lw_g (lw_at lw_m7 172 rfl) rfl
theorem q1742 : (Jvm.Cond.code ({ cls := "HookSwingsModel", name := "commandBy", desc := "(I)I" } : Jvm.MethodName) prog_19_method_66_code (4 : Nat) (Option.some Jvm.ClassFile.FieldType.int)) ∈ lw_all := lw_g (lw_at lw_m7 173 rfl) rfl
theorem q1744 : (Jvm.Cond.instanceMethod ({ cls := "HookSwingsModel", name := "hoist", desc := "(I)Z" } : Jvm.MethodName)) ∈ lw_all := lw_g (lw_at lw_m7 175 rfl) rfl
theorem q1745 : (Jvm.Cond.selects "HookSwingsModel" ({ cls := "HookSwingsModel", name := "hoist", desc := "(I)Z" } : Jvm.MethodName) ({ cls := "HookSwingsModel", name := "hoist", desc := "(I)Z" } : Jvm.MethodName)) ∈ lw_all := lw_g (lw_at lw_m7 176 rfl) rfl
theorem q1746 : (Jvm.Cond.code ({ cls := "HookSwingsModel", name := "hoist", desc := "(I)Z" } : Jvm.MethodName) prog_19_method_81_code (2 : Nat) (Option.some Jvm.ClassFile.FieldType.boolean)) ∈ lw_all := lw_g (lw_at lw_m7 177 rfl) rfl
theorem q1748 : (Jvm.Cond.instanceMethod ({ cls := "HookSwingsModel", name := "aim", desc := "(I)Z" } : Jvm.MethodName)) ∈ lw_all := lw_g (lw_at lw_m7 179 rfl) rfl
theorem q1749 : (Jvm.Cond.selects "HookSwingsModel" ({ cls := "HookSwingsModel", name := "aim", desc := "(I)Z" } : Jvm.MethodName) ({ cls := "HookSwingsModel", name := "aim", desc := "(I)Z" } : Jvm.MethodName)) ∈ lw_all := lw_g (lw_at lw_m7 180 rfl) rfl
theorem q1750 : (Jvm.Cond.code ({ cls := "HookSwingsModel", name := "aim", desc := "(I)Z" } : Jvm.MethodName) prog_19_method_82_code (2 : Nat) (Option.some Jvm.ClassFile.FieldType.boolean)) ∈ lw_all := lw_g (lw_at lw_m7 181 rfl) rfl
theorem q1752 : (Jvm.Cond.instanceMethod ({ cls := "HookSwingsModel", name := "hook", desc := "(I)Z" } : Jvm.MethodName)) ∈ lw_all := lw_g (lw_at lw_m7 183 rfl) rfl
theorem q1753 : (Jvm.Cond.selects "HookSwingsModel" ({ cls := "HookSwingsModel", name := "hook", desc := "(I)Z" } : Jvm.MethodName) ({ cls := "HookSwingsModel", name := "hook", desc := "(I)Z" } : Jvm.MethodName)) ∈ lw_all := lw_g (lw_at lw_m7 184 rfl) rfl
theorem q1754 : (Jvm.Cond.code ({ cls := "HookSwingsModel", name := "hook", desc := "(I)Z" } : Jvm.MethodName) prog_19_method_83_code (2 : Nat) (Option.some Jvm.ClassFile.FieldType.boolean)) ∈ lw_all := lw_g (lw_at lw_m7 185 rfl) rfl
theorem q1755 : (Jvm.Cond.methodLink "HookSwingsModel" (344 : Nat) ({ cls := "HookSwingsModel", name := "isOrder", desc := "(I)Z" } : Jvm.MethodName)) ∈ lw_all := lw_g (lw_at lw_m7 186 rfl) rfl
theorem q1756 : (Jvm.Cond.privateMethod ({ cls := "HookSwingsModel", name := "isOrder", desc := "(I)Z" } : Jvm.MethodName)) ∈ lw_tbl := lw_at lw_m7 187 rfl
theorem q1757 : (Jvm.Cond.instanceMethod ({ cls := "HookSwingsModel", name := "isOrder", desc := "(I)Z" } : Jvm.MethodName)) ∈ lw_all := lw_g (lw_at lw_m7 188 rfl) rfl
theorem q1758 : (Jvm.Cond.code ({ cls := "HookSwingsModel", name := "isOrder", desc := "(I)Z" } : Jvm.MethodName) prog_19_method_8_code (2 : Nat) (Option.some Jvm.ClassFile.FieldType.boolean)) ∈ lw_all := lw_g (lw_at lw_m7 189 rfl) rfl
theorem q1760 : (Jvm.Cond.instanceMethod ({ cls := "HookSwingsModel", name := "land", desc := "()I" } : Jvm.MethodName)) ∈ lw_all := lw_g (lw_at lw_m7 191 rfl) rfl
theorem q1761 : (Jvm.Cond.selects "HookSwingsModel" ({ cls := "HookSwingsModel", name := "land", desc := "()I" } : Jvm.MethodName) ({ cls := "HookSwingsModel", name := "land", desc := "()I" } : Jvm.MethodName)) ∈ lw_all := lw_g (lw_at lw_m7 192 rfl) rfl
theorem q1762 : (Jvm.Cond.code ({ cls := "HookSwingsModel", name := "land", desc := "()I" } : Jvm.MethodName) prog_19_method_84_code (2 : Nat) (Option.some Jvm.ClassFile.FieldType.int)) ∈ lw_all := lw_g (lw_at lw_m7 193 rfl) rfl
theorem q1763 : (Jvm.Cond.methodLink "HookSwingsModel" (347 : Nat) ({ cls := "HookSwingsModel", name := "hangsStill", desc := "()Z" } : Jvm.MethodName)) ∈ lw_all := lw_g (lw_at lw_m7 194 rfl) rfl
theorem q1764 : (Jvm.Cond.privateMethod ({ cls := "HookSwingsModel", name := "hangsStill", desc := "()Z" } : Jvm.MethodName)) ∈ lw_tbl := lw_at lw_m7 195 rfl
theorem q1765 : (Jvm.Cond.instanceMethod ({ cls := "HookSwingsModel", name := "hangsStill", desc := "()Z" } : Jvm.MethodName)) ∈ lw_all := lw_g (lw_at lw_m7 196 rfl) rfl
theorem q1766 : (Jvm.Cond.code ({ cls := "HookSwingsModel", name := "hangsStill", desc := "()Z" } : Jvm.MethodName) prog_19_method_73_code (1 : Nat) (Option.some Jvm.ClassFile.FieldType.boolean)) ∈ lw_all := lw_g (lw_at lw_m7 197 rfl) rfl
theorem q1767 : (Jvm.Cond.methodLink "HookSwingsModel" (323 : Nat) ({ cls := "HookSwingsModel", name := "sizeOf", desc := "(I)I" } : Jvm.MethodName)) ∈ lw_all := lw_g (lw_at lw_m7 198 rfl) rfl
theorem q1768 : (Jvm.Cond.static ({ cls := "HookSwingsModel", name := "sizeOf", desc := "(I)I" } : Jvm.MethodName)) ∈ lw_all := lw_g (lw_at lw_m7 199 rfl) rfl
theorem q1769 : (Jvm.Cond.code ({ cls := "HookSwingsModel", name := "sizeOf", desc := "(I)I" } : Jvm.MethodName) prog_19_method_5_code (1 : Nat) (Option.some Jvm.ClassFile.FieldType.int)) ∈ lw_all := lw_g (lw_at lw_m7 200 rfl) rfl
theorem q1771 : (Jvm.Cond.instanceMethod ({ cls := "HookSwingsModel", name := "played", desc := "(I)I" } : Jvm.MethodName)) ∈ lw_all := lw_g (lw_at lw_m7 202 rfl) rfl
theorem q1772 : (Jvm.Cond.selects "HookSwingsModel" ({ cls := "HookSwingsModel", name := "played", desc := "(I)I" } : Jvm.MethodName) ({ cls := "HookSwingsModel", name := "played", desc := "(I)I" } : Jvm.MethodName)) ∈ lw_all := lw_g (lw_at lw_m7 203 rfl) rfl
theorem q1773 : (Jvm.Cond.code ({ cls := "HookSwingsModel", name := "played", desc := "(I)I" } : Jvm.MethodName) prog_19_method_86_code (3 : Nat) (Option.some Jvm.ClassFile.FieldType.int)) ∈ lw_all := lw_g (lw_at lw_m7 204 rfl) rfl
theorem q1774 : (Jvm.Cond.methodLink "HookSwingsModel" (366 : Nat) ({ cls := "HookSwingsModel", name := "isPlayed", desc := "(I)Z" } : Jvm.MethodName)) ∈ lw_all := lw_g (lw_at lw_m7 205 rfl) rfl
theorem q1775 : (Jvm.Cond.privateMethod ({ cls := "HookSwingsModel", name := "isPlayed", desc := "(I)Z" } : Jvm.MethodName)) ∈ lw_tbl := lw_at lw_m7 206 rfl
theorem q1776 : (Jvm.Cond.instanceMethod ({ cls := "HookSwingsModel", name := "isPlayed", desc := "(I)Z" } : Jvm.MethodName)) ∈ lw_all := lw_g (lw_at lw_m7 207 rfl) rfl
theorem q1777 : (Jvm.Cond.code ({ cls := "HookSwingsModel", name := "isPlayed", desc := "(I)Z" } : Jvm.MethodName) prog_19_method_85_code (3 : Nat) (Option.some Jvm.ClassFile.FieldType.boolean)) ∈ lw_all := lw_g (lw_at lw_m7 208 rfl) rfl
theorem q1778 : (Jvm.Cond.methodLink "HookSwingsModel" (350 : Nat) ({ cls := "HookSwingsModel", name := "order", desc := "(IIIII)I" } : Jvm.MethodName)) ∈ lw_all := lw_g (lw_at lw_m7 209 rfl) rfl
theorem q1779 : (Jvm.Cond.methodLink "HookSwingsModel" (354 : Nat) ({ cls := "HookSwingsModel", name := "hoist", desc := "(I)Z" } : Jvm.MethodName)) ∈ lw_all := lw_g (lw_at lw_m7 210 rfl) rfl
theorem q1780 : (Jvm.Cond.methodLink "HookSwingsModel" (357 : Nat) ({ cls := "HookSwingsModel", name := "aim", desc := "(I)Z" } : Jvm.MethodName)) ∈ lw_all := lw_g (lw_at lw_m7 211 rfl) rfl
theorem q1781 : (Jvm.Cond.methodLink "HookSwingsModel" (360 : Nat) ({ cls := "HookSwingsModel", name := "hook", desc := "(I)Z" } : Jvm.MethodName)) ∈ lw_all := lw_g (lw_at lw_m7 212 rfl) rfl
theorem q1782 : (Jvm.Cond.methodLink "HookSwingsModel" (363 : Nat) ({ cls := "HookSwingsModel", name := "land", desc := "()I" } : Jvm.MethodName)) ∈ lw_all := lw_g (lw_at lw_m7 213 rfl) rfl
theorem q1784 : (Jvm.Cond.instanceMethod ({ cls := "HookSwingsModel", name := "storm", desc := "(II)I" } : Jvm.MethodName)) ∈ lw_all := lw_g (lw_at lw_m7 215 rfl) rfl
theorem q1785 : (Jvm.Cond.selects "HookSwingsModel" ({ cls := "HookSwingsModel", name := "storm", desc := "(II)I" } : Jvm.MethodName) ({ cls := "HookSwingsModel", name := "storm", desc := "(II)I" } : Jvm.MethodName)) ∈ lw_all := lw_g (lw_at lw_m7 216 rfl) rfl
theorem q1786 : (Jvm.Cond.code ({ cls := "HookSwingsModel", name := "storm", desc := "(II)I" } : Jvm.MethodName) prog_19_method_87_code (4 : Nat) (Option.some Jvm.ClassFile.FieldType.int)) ∈ lw_all := lw_g (lw_at lw_m7 217 rfl) rfl
theorem q1788 : (Jvm.Cond.instanceMethod ({ cls := "HookSwingsModel", name := "jib", desc := "(I)I" } : Jvm.MethodName)) ∈ lw_all := lw_g (lw_at lw_m7 219 rfl) rfl
theorem q1789 : (Jvm.Cond.selects "HookSwingsModel" ({ cls := "HookSwingsModel", name := "jib", desc := "(I)I" } : Jvm.MethodName) ({ cls := "HookSwingsModel", name := "jib", desc := "(I)I" } : Jvm.MethodName)) ∈ lw_all := lw_g (lw_at lw_m7 220 rfl) rfl
theorem q1790 : (Jvm.Cond.code ({ cls := "HookSwingsModel", name := "jib", desc := "(I)I" } : Jvm.MethodName) prog_19_method_88_code (2 : Nat) (Option.some Jvm.ClassFile.FieldType.int)) ∈ lw_all := lw_g (lw_at lw_m7 221 rfl) rfl
theorem q1791 : (Jvm.Cond.constant "HookSwingsModel" (369 : Nat) (-100000 : Int32)) ∈ lw_all := lw_g (lw_at lw_m7 222 rfl) rfl
theorem q1793 : (Jvm.Cond.instanceMethod ({ cls := "HookSwingsModel", name := "ofOrder", desc := "(II)I" } : Jvm.MethodName)) ∈ lw_all := lw_g (lw_at lw_m7 224 rfl) rfl
theorem q1794 : (Jvm.Cond.selects "HookSwingsModel" ({ cls := "HookSwingsModel", name := "ofOrder", desc := "(II)I" } : Jvm.MethodName) ({ cls := "HookSwingsModel", name := "ofOrder", desc := "(II)I" } : Jvm.MethodName)) ∈ lw_all := lw_g (lw_at lw_m7 225 rfl) rfl
theorem q1795 : (Jvm.Cond.code ({ cls := "HookSwingsModel", name := "ofOrder", desc := "(II)I" } : Jvm.MethodName) prog_19_method_89_code (3 : Nat) (Option.some Jvm.ClassFile.FieldType.int)) ∈ lw_all := lw_g (lw_at lw_m7 226 rfl) rfl
theorem q1796 : (Jvm.Cond.methodLink "HookSwingsModel" (370 : Nat) ({ cls := "HookSwingsModel", name := "lastsOf", desc := "(I)I" } : Jvm.MethodName)) ∈ lw_all := lw_g (lw_at lw_m7 227 rfl) rfl
theorem q1797 : (Jvm.Cond.privateMethod ({ cls := "HookSwingsModel", name := "lastsOf", desc := "(I)I" } : Jvm.MethodName)) ∈ lw_tbl := lw_at lw_m7 228 rfl
theorem q1798 : (Jvm.Cond.instanceMethod ({ cls := "HookSwingsModel", name := "lastsOf", desc := "(I)I" } : Jvm.MethodName)) ∈ lw_all := lw_g (lw_at lw_m7 229 rfl) rfl
theorem q1799 : (Jvm.Cond.code ({ cls := "HookSwingsModel", name := "lastsOf", desc := "(I)I" } : Jvm.MethodName) prog_19_method_67_code (2 : Nat) (Option.some Jvm.ClassFile.FieldType.int)) ∈ lw_all := lw_g (lw_at lw_m7 230 rfl) rfl
theorem q1800 : (Jvm.Cond.methodLink "HookSwingsModel" (373 : Nat) ({ cls := "HookSwingsModel", name := "holdsAt", desc := "(I)I" } : Jvm.MethodName)) ∈ lw_all := lw_g (lw_at lw_m7 231 rfl) rfl
theorem q1801 : (Jvm.Cond.privateMethod ({ cls := "HookSwingsModel", name := "holdsAt", desc := "(I)I" } : Jvm.MethodName)) ∈ lw_tbl := lw_at lw_m7 232 rfl
theorem q1802 : (Jvm.Cond.instanceMethod ({ cls := "HookSwingsModel", name := "holdsAt", desc := "(I)I" } : Jvm.MethodName)) ∈ lw_all := lw_g (lw_at lw_m7 233 rfl) rfl
theorem q1803 : (Jvm.Cond.code ({ cls := "HookSwingsModel", name := "holdsAt", desc := "(I)I" } : Jvm.MethodName) prog_19_method_68_code (2 : Nat) (Option.some Jvm.ClassFile.FieldType.int)) ∈ lw_all := lw_g (lw_at lw_m7 234 rfl) rfl
theorem q1805 : (Jvm.Cond.instanceMethod ({ cls := "HookSwingsModel", name := "ago", desc := "(II)I" } : Jvm.MethodName)) ∈ lw_all := lw_g (lw_at lw_m7 236 rfl) rfl
theorem q1806 : (Jvm.Cond.selects "HookSwingsModel" ({ cls := "HookSwingsModel", name := "ago", desc := "(II)I" } : Jvm.MethodName) ({ cls := "HookSwingsModel", name := "ago", desc := "(II)I" } : Jvm.MethodName)) ∈ lw_all := lw_g (lw_at lw_m7 237 rfl) rfl
theorem q1807 : (Jvm.Cond.code ({ cls := "HookSwingsModel", name := "ago", desc := "(II)I" } : Jvm.MethodName) prog_19_method_91_code (3 : Nat) (Option.some Jvm.ClassFile.FieldType.int)) ∈ lw_all := lw_g (lw_at lw_m7 238 rfl) rfl
theorem q1808 : (Jvm.Cond.methodLink "HookSwingsModel" (376 : Nat) ({ cls := "HookSwingsModel", name := "held", desc := "()I" } : Jvm.MethodName)) ∈ lw_all := lw_g (lw_at lw_m7 239 rfl) rfl
theorem q1809 : (Jvm.Cond.privateMethod ({ cls := "HookSwingsModel", name := "held", desc := "()I" } : Jvm.MethodName)) ∈ lw_tbl := lw_at lw_m8 0 rfl
theorem q1810 : (Jvm.Cond.instanceMethod ({ cls := "HookSwingsModel", name := "held", desc := "()I" } : Jvm.MethodName)) ∈ lw_all := lw_g (lw_at lw_m8 1 rfl) rfl
theorem q1811 : (Jvm.Cond.code ({ cls := "HookSwingsModel", name := "held", desc := "()I" } : Jvm.MethodName) prog_19_method_90_code (1 : Nat) (Option.some Jvm.ClassFile.FieldType.int)) ∈ lw_all := lw_g (lw_at lw_m8 2 rfl) rfl
theorem q1813 : (Jvm.Cond.instanceMethod ({ cls := "HookSwingsModel", name := "foretold", desc := "(IZI)I" } : Jvm.MethodName)) ∈ lw_all := lw_g (lw_at lw_m8 4 rfl) rfl
theorem q1814 : (Jvm.Cond.selects "HookSwingsModel" ({ cls := "HookSwingsModel", name := "foretold", desc := "(IZI)I" } : Jvm.MethodName) ({ cls := "HookSwingsModel", name := "foretold", desc := "(IZI)I" } : Jvm.MethodName)) ∈ lw_all := lw_g (lw_at lw_m8 5 rfl) rfl
theorem q1815 : (Jvm.Cond.code ({ cls := "HookSwingsModel", name := "foretold", desc := "(IZI)I" } : Jvm.MethodName) prog_19_method_94_code (7 : Nat) (Option.some Jvm.ClassFile.FieldType.int)) ∈ lw_all := lw_g (lw_at lw_m8 6 rfl) rfl
theorem q1816 : (Jvm.Cond.methodLink "HookSwingsModel" (379 : Nat) ({ cls := "HookSwingsModel", name := "begin", desc := "()V" } : Jvm.MethodName)) ∈ lw_all := lw_g (lw_at lw_m8 7 rfl) rfl
theorem q1817 : (Jvm.Cond.privateMethod ({ cls := "HookSwingsModel", name := "begin", desc := "()V" } : Jvm.MethodName)) ∈ lw_tbl := lw_at lw_m8 8 rfl
theorem q1818 : (Jvm.Cond.instanceMethod ({ cls := "HookSwingsModel", name := "begin", desc := "()V" } : Jvm.MethodName)) ∈ lw_all := lw_g (lw_at lw_m8 9 rfl) rfl
theorem q1819 : (Jvm.Cond.code ({ cls := "HookSwingsModel", name := "begin", desc := "()V" } : Jvm.MethodName) prog_19_method_92_code (2 : Nat) (Option.none : Option Jvm.ClassFile.FieldType)) ∈ lw_all := lw_g (lw_at lw_m8 10 rfl) rfl
theorem q1820 : (Jvm.Cond.methodLink "HookSwingsModel" (382 : Nat) ({ cls := "HookSwingsModel", name := "putBack", desc := "()V" } : Jvm.MethodName)) ∈ lw_all := lw_g (lw_at lw_m8 11 rfl) rfl
theorem q1821 : (Jvm.Cond.privateMethod ({ cls := "HookSwingsModel", name := "putBack", desc := "()V" } : Jvm.MethodName)) ∈ lw_tbl := lw_at lw_m8 12 rfl
theorem q1822 : (Jvm.Cond.instanceMethod ({ cls := "HookSwingsModel", name := "putBack", desc := "()V" } : Jvm.MethodName)) ∈ lw_all := lw_g (lw_at lw_m8 13 rfl) rfl
theorem q1823 : (Jvm.Cond.code ({ cls := "HookSwingsModel", name := "putBack", desc := "()V" } : Jvm.MethodName) prog_19_method_93_code (2 : Nat) (Option.none : Option Jvm.ClassFile.FieldType)) ∈ lw_all := lw_g (lw_at lw_m8 14 rfl) rfl
theorem q1825 : (Jvm.Cond.instanceMethod ({ cls := "HookSwingsModel", name := "soonest", desc := "(I)I" } : Jvm.MethodName)) ∈ lw_all := lw_g (lw_at lw_m8 16 rfl) rfl
theorem q1826 : (Jvm.Cond.selects "HookSwingsModel" ({ cls := "HookSwingsModel", name := "soonest", desc := "(I)I" } : Jvm.MethodName) ({ cls := "HookSwingsModel", name := "soonest", desc := "(I)I" } : Jvm.MethodName)) ∈ lw_all := lw_g (lw_at lw_m8 17 rfl) rfl
theorem q1827 : (Jvm.Cond.code ({ cls := "HookSwingsModel", name := "soonest", desc := "(I)I" } : Jvm.MethodName) prog_19_method_97_code (5 : Nat) (Option.some Jvm.ClassFile.FieldType.int)) ∈ lw_all := lw_g (lw_at lw_m8 18 rfl) rfl
theorem q1828 : (Jvm.Cond.methodLink "HookSwingsModel" (388 : Nat) ({ cls := "HookSwingsModel", name := "comesStill", desc := "(II)Z" } : Jvm.MethodName)) ∈ lw_all := lw_g (lw_at lw_m8 19 rfl) rfl
theorem q1829 : (Jvm.Cond.privateMethod ({ cls := "HookSwingsModel", name := "comesStill", desc := "(II)Z" } : Jvm.MethodName)) ∈ lw_tbl := lw_at lw_m8 20 rfl
theorem q1830 : (Jvm.Cond.instanceMethod ({ cls := "HookSwingsModel", name := "comesStill", desc := "(II)Z" } : Jvm.MethodName)) ∈ lw_all := lw_g (lw_at lw_m8 21 rfl) rfl
theorem q1831 : (Jvm.Cond.code ({ cls := "HookSwingsModel", name := "comesStill", desc := "(II)Z" } : Jvm.MethodName) prog_19_method_96_code (4 : Nat) (Option.some Jvm.ClassFile.FieldType.boolean)) ∈ lw_all := lw_g (lw_at lw_m8 22 rfl) rfl
theorem q1832 : (Jvm.Cond.methodLink "HookSwingsModel" (385 : Nat) ({ cls := "HookSwingsModel", name := "digitOf", desc := "(III)I" } : Jvm.MethodName)) ∈ lw_all := lw_g (lw_at lw_m8 23 rfl) rfl
theorem q1833 : (Jvm.Cond.static ({ cls := "HookSwingsModel", name := "digitOf", desc := "(III)I" } : Jvm.MethodName)) ∈ lw_all := lw_g (lw_at lw_m8 24 rfl) rfl
theorem q1834 : (Jvm.Cond.code ({ cls := "HookSwingsModel", name := "digitOf", desc := "(III)I" } : Jvm.MethodName) prog_19_method_95_code (5 : Nat) (Option.some Jvm.ClassFile.FieldType.int)) ∈ lw_all := lw_g (lw_at lw_m8 25 rfl) rfl
theorem q1836 : (Jvm.Cond.instanceMethod ({ cls := "HookSwingsModel", name := "fewest", desc := "(I)I" } : Jvm.MethodName)) ∈ lw_all := lw_g (lw_at lw_m8 27 rfl) rfl
theorem q1837 : (Jvm.Cond.selects "HookSwingsModel" ({ cls := "HookSwingsModel", name := "fewest", desc := "(I)I" } : Jvm.MethodName) ({ cls := "HookSwingsModel", name := "fewest", desc := "(I)I" } : Jvm.MethodName)) ∈ lw_all := lw_g (lw_at lw_m8 28 rfl) rfl
theorem q1838 : (Jvm.Cond.code ({ cls := "HookSwingsModel", name := "fewest", desc := "(I)I" } : Jvm.MethodName) prog_19_method_99_code (8 : Nat) (Option.some Jvm.ClassFile.FieldType.int)) ∈ lw_all := lw_g (lw_at lw_m8 29 rfl) rfl
theorem q1839 : (Jvm.Cond.constant "HookSwingsModel" (391 : Nat) (100000000 : Int32)) ∈ lw_all := lw_g (lw_at lw_m8 30 rfl) rfl
theorem q1840 : (Jvm.Cond.methodLink "HookSwingsModel" (392 : Nat) ({ cls := "HookSwingsModel", name := "many", desc := "(II)I" } : Jvm.MethodName)) ∈ lw_all := lw_g (lw_at lw_m8 31 rfl) rfl
theorem q1841 : (Jvm.Cond.static ({ cls := "HookSwingsModel", name := "many", desc := "(II)I" } : Jvm.MethodName)) ∈ lw_all := lw_g (lw_at lw_m8 32 rfl) rfl
theorem q1842 : (Jvm.Cond.code ({ cls := "HookSwingsModel", name := "many", desc := "(II)I" } : Jvm.MethodName) prog_19_method_98_code (4 : Nat) (Option.some Jvm.ClassFile.FieldType.int)) ∈ lw_all := lw_g (lw_at lw_m8 33 rfl) rfl
theorem q1844 : (Jvm.Cond.instanceMethod ({ cls := "HookSwingsModel", name := "toAndFro", desc := "(I)I" } : Jvm.MethodName)) ∈ lw_all := lw_g (lw_at lw_m8 35 rfl) rfl
theorem q1845 : (Jvm.Cond.selects "HookSwingsModel" ({ cls := "HookSwingsModel", name := "toAndFro", desc := "(I)I" } : Jvm.MethodName) ({ cls := "HookSwingsModel", name := "toAndFro", desc := "(I)I" } : Jvm.MethodName)) ∈ lw_all := lw_g (lw_at lw_m8 36 rfl) rfl
theorem q1846 : (Jvm.Cond.code ({ cls := "HookSwingsModel", name := "toAndFro", desc := "(I)I" } : Jvm.MethodName) prog_19_method_100_code (6 : Nat) (Option.some Jvm.ClassFile.FieldType.int)) ∈ lw_all := lw_g (lw_at lw_m8 37 rfl) rfl
theorem q1848 : (Jvm.Cond.instanceMethod ({ cls := "HookSwingsModel", name := "calm", desc := "(IIZ)J" } : Jvm.MethodName)) ∈ lw_all := lw_g (lw_at lw_m8 39 rfl) rfl
theorem q1849 : (Jvm.Cond.selects "HookSwingsModel" ({ cls := "HookSwingsModel", name := "calm", desc := "(IIZ)J" } : Jvm.MethodName) ({ cls := "HookSwingsModel", name := "calm", desc := "(IIZ)J" } : Jvm.MethodName)) ∈ lw_all := lw_g (lw_at lw_m8 40 rfl) rfl
theorem q1850 : (Jvm.Cond.code ({ cls := "HookSwingsModel", name := "calm", desc := "(IIZ)J" } : Jvm.MethodName) prog_19_method_101_code (9 : Nat) (Option.some Jvm.ClassFile.FieldType.long)) ∈ lw_all := lw_g (lw_at lw_m8 41 rfl) rfl
theorem q1851 : (Jvm.Cond.constantLong "HookSwingsModel" (395 : Nat) (-1 : Int64)) ∈ lw_all := lw_g (lw_at lw_m8 42 rfl) rfl
theorem q1852 : (Jvm.Cond.constantLong "HookSwingsModel" (397 : Nat) (10 : Int64)) ∈ lw_all := lw_g (lw_at lw_m8 43 rfl) rfl
theorem q1853 : (Jvm.Cond.methodLink "HookSwingsModel" (399 : Nat) ({ cls := "HookSwingsModel", name := "common", desc := "(JJ)J" } : Jvm.MethodName)) ∈ lw_all := lw_g (lw_at lw_m8 44 rfl) rfl
theorem q1854 : (Jvm.Cond.static ({ cls := "HookSwingsModel", name := "common", desc := "(JJ)J" } : Jvm.MethodName)) ∈ lw_all := lw_g (lw_at lw_m8 45 rfl) rfl
theorem q1855 : (Jvm.Cond.code ({ cls := "HookSwingsModel", name := "common", desc := "(JJ)J" } : Jvm.MethodName) prog_19_method_132_code (10 : Nat) (Option.some Jvm.ClassFile.FieldType.long)) ∈ lw_all := lw_g (lw_at lw_m8 46 rfl) rfl
theorem q1857 : (Jvm.Cond.instanceMethod ({ cls := "HookSwingsModel", name := "dies", desc := "(II)I" } : Jvm.MethodName)) ∈ lw_all := lw_g (lw_at lw_m8 48 rfl) rfl
theorem q1858 : (Jvm.Cond.selects "HookSwingsModel" ({ cls := "HookSwingsModel", name := "dies", desc := "(II)I" } : Jvm.MethodName) ({ cls := "HookSwingsModel", name := "dies", desc := "(II)I" } : Jvm.MethodName)) ∈ lw_all := lw_g (lw_at lw_m8 49 rfl) rfl
theorem q1859 : (Jvm.Cond.code ({ cls := "HookSwingsModel", name := "dies", desc := "(II)I" } : Jvm.MethodName) prog_19_method_104_code (3 : Nat) (Option.some Jvm.ClassFile.FieldType.int)) ∈ lw_all := lw_g (lw_at lw_m8 50 rfl) rfl
theorem q1860 : (Jvm.Cond.methodLink "HookSwingsModel" (409 : Nat) ({ cls := "HookSwingsModel", name := "isText", desc := "(I)Z" } : Jvm.MethodName)) ∈ lw_all := lw_g (lw_at lw_m8 51 rfl) rfl
theorem q1861 : (Jvm.Cond.privateMethod ({ cls := "HookSwingsModel", name := "isText", desc := "(I)Z" } : Jvm.MethodName)) ∈ lw_tbl := lw_at lw_m8 52 rfl
theorem q1862 : (Jvm.Cond.instanceMethod ({ cls := "HookSwingsModel", name := "isText", desc := "(I)Z" } : Jvm.MethodName)) ∈ lw_all := lw_g (lw_at lw_m8 53 rfl) rfl
theorem q1863 : (Jvm.Cond.code ({ cls := "HookSwingsModel", name := "isText", desc := "(I)Z" } : Jvm.MethodName) prog_19_method_103_code (2 : Nat) (Option.some Jvm.ClassFile.FieldType.boolean)) ∈ lw_all := lw_g (lw_at lw_m8 54 rfl) rfl
theorem q1864 : (Jvm.Cond.methodLink "HookSwingsModel" (412 : Nat) ({ cls := "HookSwingsModel", name := "halves", desc := "(II)V" } : Jvm.MethodName)) ∈ lw_all := lw_g (lw_at lw_m8 55 rfl) rfl
theorem q1865 : (Jvm.Cond.privateMethod ({ cls := "HookSwingsModel", name := "halves", desc := "(II)V" } : Jvm.MethodName)) ∈ lw_tbl := lw_at lw_m8 56 rfl
theorem q1866 : (Jvm.Cond.instanceMethod ({ cls := "HookSwingsModel", name := "halves", desc := "(II)V" } : Jvm.MethodName)) ∈ lw_all := lw_g (lw_at lw_m8 57 rfl) rfl
theorem q1867 : (Jvm.Cond.code ({ cls := "HookSwingsModel", name := "halves", desc := "(II)V" } : Jvm.MethodName) prog_19_method_102_code (5 : Nat) (Option.none : Option Jvm.ClassFile.FieldType)) ∈ lw_all := lw_g (lw_at lw_m8 58 rfl) rfl
theorem q1869 : (Jvm.Cond.instanceMethod ({ cls := "HookSwingsModel", name := "calmest", desc := "(I)I" } : Jvm.MethodName)) ∈ lw_all := lw_g (lw_at lw_m8 60 rfl) rfl
theorem q1870 : (Jvm.Cond.selects "HookSwingsModel" ({ cls := "HookSwingsModel", name := "calmest", desc := "(I)I" } : Jvm.MethodName) ({ cls := "HookSwingsModel", name := "calmest", desc := "(I)I" } : Jvm.MethodName)) ∈ lw_all := lw_g (lw_at lw_m8 61 rfl) rfl
theorem q1871 : (Jvm.Cond.code ({ cls := "HookSwingsModel", name := "calmest", desc := "(I)I" } : Jvm.MethodName) prog_19_method_105_code (6 : Nat) (Option.some Jvm.ClassFile.FieldType.int)) ∈ lw_all := lw_g (lw_at lw_m8 62 rfl) rfl
theorem q1873 : (Jvm.Cond.instanceMethod ({ cls := "HookSwingsModel", name := "whoseHand", desc := "()I" } : Jvm.MethodName)) ∈ lw_all := lw_g (lw_at lw_m8 64 rfl) rfl
theorem q1874 : (Jvm.Cond.selects "HookSwingsModel" ({ cls := "HookSwingsModel", name := "whoseHand", desc := "()I" } : Jvm.MethodName) ({ cls := "HookSwingsModel", name := "whoseHand", desc := "()I" } : Jvm.MethodName)) ∈ lw_all := lw_g (lw_at lw_m8 65 rfl) rfl
theorem q1875 : (Jvm.Cond.code ({ cls := "HookSwingsModel", name := "whoseHand", desc := "()I" } : Jvm.MethodName) prog_19_method_107_code (3 : Nat) (Option.some Jvm.ClassFile.FieldType.int)) ∈ lw_all := lw_g (lw_at lw_m8 66 rfl) rfl
theorem q1876 : (Jvm.Cond.methodLink "HookSwingsModel" (415 : Nat) ({ cls := "HookSwingsModel", name := "isHandOf", desc := "(I)Z" } : Jvm.MethodName)) ∈ lw_all := lw_g (lw_at lw_m8 67 rfl) rfl
theorem q1877 : (Jvm.Cond.privateMethod ({ cls := "HookSwingsModel", name := "isHandOf", desc := "(I)Z" } : Jvm.MethodName)) ∈ lw_tbl := lw_at lw_m8 68 rfl
theorem q1878 : (Jvm.Cond.instanceMethod ({ cls := "HookSwingsModel", name := "isHandOf", desc := "(I)Z" } : Jvm.MethodName)) ∈ lw_all := lw_g (lw_at lw_m8 69 rfl) rfl
theorem q1879 : (Jvm.Cond.code ({ cls := "HookSwingsModel", name := "isHandOf", desc := "(I)Z" } : Jvm.MethodName) prog_19_method_106_code (4 : Nat) (Option.some Jvm.ClassFile.FieldType.boolean)) ∈ lw_all := lw_g (lw_at lw_m8 70 rfl) rfl
theorem q1881 : (Jvm.Cond.instanceMethod ({ cls := "HookSwingsModel", name := "saves", desc := "(III)I" } : Jvm.MethodName)) ∈ lw_all := lw_g (lw_at lw_m8 72 rfl) rfl
theorem q1882 : (Jvm.Cond.selects "HookSwingsModel" ({ cls := "HookSwingsModel", name := "saves", desc := "(III)I" } : Jvm.MethodName) ({ cls := "HookSwingsModel", name := "saves", desc := "(III)I" } : Jvm.MethodName)) ∈ lw_all := lw_g (lw_at lw_m8 73 rfl) rfl
theorem q1883 : (Jvm.Cond.code ({ cls := "HookSwingsModel", name := "saves", desc := "(III)I" } : Jvm.MethodName) prog_19_method_113_code (6 : Nat) (Option.some Jvm.ClassFile.FieldType.int)) ∈ lw_all := lw_g (lw_at lw_m8 74 rfl) rfl
theorem q1884 : (Jvm.Cond.methodLink "HookSwingsModel" (427 : Nat) ({ cls := "HookSwingsModel", name := "fromRest", desc := "(II)I" } : Jvm.MethodName)) ∈ lw_all := lw_g (lw_at lw_m8 75 rfl) rfl
theorem q1885 : (Jvm.Cond.privateMethod ({ cls := "HookSwingsModel", name := "fromRest", desc := "(II)I" } : Jvm.MethodName)) ∈ lw_tbl := lw_at lw_m8 76 rfl
theorem q1886 : (Jvm.Cond.instanceMethod ({ cls := "HookSwingsModel", name := "fromRest", desc := "(II)I" } : Jvm.MethodName)) ∈ lw_all := lw_g (lw_at lw_m8 77 rfl) rfl
theorem q1887 : (Jvm.Cond.code ({ cls := "HookSwingsModel", name := "fromRest", desc := "(II)I" } : Jvm.MethodName) prog_19_method_110_code (4 : Nat) (Option.some Jvm.ClassFile.FieldType.int)) ∈ lw_all := lw_g (lw_at lw_m8 78 rfl) rfl
theorem q1888 : (Jvm.Cond.methodLink "HookSwingsModel" (418 : Nat) ({ cls := "HookSwingsModel", name := "keepPast", desc := "()V" } : Jvm.MethodName)) ∈ lw_all := lw_g (lw_at lw_m8 79 rfl) rfl
theorem q1889 : (Jvm.Cond.privateMethod ({ cls := "HookSwingsModel", name := "keepPast", desc := "()V" } : Jvm.MethodName)) ∈ lw_tbl := lw_at lw_m8 80 rfl
theorem q1890 : (Jvm.Cond.instanceMethod ({ cls := "HookSwingsModel", name := "keepPast", desc := "()V" } : Jvm.MethodName)) ∈ lw_all := lw_g (lw_at lw_m8 81 rfl) rfl
theorem q1891 : (Jvm.Cond.code ({ cls := "HookSwingsModel", name := "keepPast", desc := "()V" } : Jvm.MethodName) prog_19_method_111_code (2 : Nat) (Option.none : Option Jvm.ClassFile.FieldType)) ∈ lw_all := lw_g (lw_at lw_m8 82 rfl) rfl
theorem q1892 : (Jvm.Cond.methodLink "HookSwingsModel" (421 : Nat) ({ cls := "HookSwingsModel", name := "stillBy", desc := "(II)I" } : Jvm.MethodName)) ∈ lw_all := lw_g (lw_at lw_m8 83 rfl) rfl
theorem q1893 : (Jvm.Cond.privateMethod ({ cls := "HookSwingsModel", name := "stillBy", desc := "(II)I" } : Jvm.MethodName)) ∈ lw_tbl := lw_at lw_m8 84 rfl
theorem q1894 : (Jvm.Cond.instanceMethod ({ cls := "HookSwingsModel", name := "stillBy", desc := "(II)I" } : Jvm.MethodName)) ∈ lw_all := lw_g (lw_at lw_m8 85 rfl) rfl
theorem q1895 : (Jvm.Cond.code ({ cls := "HookSwingsModel", name := "stillBy", desc := "(II)I" } : Jvm.MethodName) prog_19_method_109_code (4 : Nat) (Option.some Jvm.ClassFile.FieldType.int)) ∈ lw_all := lw_g (lw_at lw_m8 86 rfl) rfl
theorem q1896 : (Jvm.Cond.methodLink "HookSwingsModel" (424 : Nat) ({ cls := "HookSwingsModel", name := "putBackPast", desc := "()V" } : Jvm.MethodName)) ∈ lw_all := lw_g (lw_at lw_m8 87 rfl) rfl
theorem q1897 : (Jvm.Cond.privateMethod ({ cls := "HookSwingsModel", name := "putBackPast", desc := "()V" } : Jvm.MethodName)) ∈ lw_tbl := lw_at lw_m8 88 rfl
theorem q1898 : (Jvm.Cond.instanceMethod ({ cls := "HookSwingsModel", name := "putBackPast", desc := "()V" } : Jvm.MethodName)) ∈ lw_all := lw_g (lw_at lw_m8 89 rfl) rfl
theorem q1899 : (Jvm.Cond.code ({ cls := "HookSwingsModel", name := "putBackPast", desc := "()V" } : Jvm.MethodName) prog_19_method_112_code (2 : Nat) (Option.none : Option Jvm.ClassFile.FieldType)) ∈ lw_all := lw_g (lw_at lw_m8 90 rfl) rfl
theorem q1901 : (Jvm.Cond.instanceMethod ({ cls := "HookSwingsModel", name := "whenToGo", desc := "()I" } : Jvm.MethodName)) ∈ lw_all := lw_g (lw_at lw_m8 92 rfl) rfl
theorem q1902 : (Jvm.Cond.selects "HookSwingsModel" ({ cls := "HookSwingsModel", name := "whenToGo", desc := "()I" } : Jvm.MethodName) ({ cls := "HookSwingsModel", name := "whenToGo", desc := "()I" } : Jvm.MethodName)) ∈ lw_all := lw_g (lw_at lw_m8 93 rfl) rfl
theorem q1903 : (Jvm.Cond.code ({ cls := "HookSwingsModel", name := "whenToGo", desc := "()I" } : Jvm.MethodName) prog_19_method_115_code (5 : Nat) (Option.some Jvm.ClassFile.FieldType.int)) ∈ lw_all := lw_g (lw_at lw_m8 94 rfl) rfl
theorem q1904 : (Jvm.Cond.methodLink "HookSwingsModel" (430 : Nat) ({ cls := "HookSwingsModel", name := "goneBy", desc := "(I)I" } : Jvm.MethodName)) ∈ lw_all := lw_g (lw_at lw_m8 95 rfl) rfl
theorem q1905 : (Jvm.Cond.privateMethod ({ cls := "HookSwingsModel", name := "goneBy", desc := "(I)I" } : Jvm.MethodName)) ∈ lw_tbl := lw_at lw_m8 96 rfl
theorem q1906 : (Jvm.Cond.instanceMethod ({ cls := "HookSwingsModel", name := "goneBy", desc := "(I)I" } : Jvm.MethodName)) ∈ lw_all := lw_g (lw_at lw_m8 97 rfl) rfl
theorem q1907 : (Jvm.Cond.code ({ cls := "HookSwingsModel", name := "goneBy", desc := "(I)I" } : Jvm.MethodName) prog_19_method_114_code (3 : Nat) (Option.some Jvm.ClassFile.FieldType.int)) ∈ lw_all := lw_g (lw_at lw_m8 98 rfl) rfl
theorem q1909 : (Jvm.Cond.instanceMethod ({ cls := "HookSwingsModel", name := "whichRope", desc := "()I" } : Jvm.MethodName)) ∈ lw_all := lw_g (lw_at lw_m8 100 rfl) rfl
theorem q1910 : (Jvm.Cond.selects "HookSwingsModel" ({ cls := "HookSwingsModel", name := "whichRope", desc := "()I" } : Jvm.MethodName) ({ cls := "HookSwingsModel", name := "whichRope", desc := "()I" } : Jvm.MethodName)) ∈ lw_all := lw_g (lw_at lw_m8 101 rfl) rfl
theorem q1911 : (Jvm.Cond.code ({ cls := "HookSwingsModel", name := "whichRope", desc := "()I" } : Jvm.MethodName) prog_19_method_116_code (5 : Nat) (Option.some Jvm.ClassFile.FieldType.int)) ∈ lw_all := lw_g (lw_at lw_m8 102 rfl) rfl
theorem q1913 : (Jvm.Cond.instanceMethod ({ cls := "HookSwingsModel", name := "bar", desc := "(IIII)I" } : Jvm.MethodName)) ∈ lw_all := lw_g (lw_at lw_m8 104 rfl) rfl
theorem q1914 : (Jvm.Cond.selects "HookSwingsModel" ({ cls := "HookSwingsModel", name := "bar", desc := "(IIII)I" } : Jvm.MethodName) ({ cls := "HookSwingsModel", name := "bar", desc := "(IIII)I" } : Jvm.MethodName)) ∈ lw_all := lw_g (lw_at lw_m8 105 rfl) rfl
theorem q1915 : (Jvm.Cond.code ({ cls := "HookSwingsModel", name := "bar", desc := "(IIII)I" } : Jvm.MethodName) prog_19_method_117_code (6 : Nat) (Option.some Jvm.ClassFile.FieldType.int)) ∈ lw_all := lw_g (lw_at lw_m8 106 rfl) rfl
theorem q1917 : (Jvm.Cond.instanceMethod ({ cls := "HookSwingsModel", name := "barred", desc := "(IZ)I" } : Jvm.MethodName)) ∈ lw_all := lw_g (lw_at lw_m8 108 rfl) rfl
theorem q1918 : (Jvm.Cond.selects "HookSwingsModel" ({ cls := "HookSwingsModel", name := "barred", desc := "(IZ)I" } : Jvm.MethodName) ({ cls := "HookSwingsModel", name := "barred", desc := "(IZ)I" } : Jvm.MethodName)) ∈ lw_all := lw_g (lw_at lw_m8 109 rfl) rfl
theorem q1919 : (Jvm.Cond.code ({ cls := "HookSwingsModel", name := "barred", desc := "(IZ)I" } : Jvm.MethodName) prog_19_method_119_code (5 : Nat) (Option.some Jvm.ClassFile.FieldType.int)) ∈ lw_all := lw_g (lw_at lw_m8 110 rfl) rfl
theorem q1920 : (Jvm.Cond.methodLink "HookSwingsModel" (433 : Nat) ({ cls := "HookSwingsModel", name := "isBarred", desc := "()Z" } : Jvm.MethodName)) ∈ lw_all := lw_g (lw_at lw_m8 111 rfl) rfl
theorem q1921 : (Jvm.Cond.privateMethod ({ cls := "HookSwingsModel", name := "isBarred", desc := "()Z" } : Jvm.MethodName)) ∈ lw_tbl := lw_at lw_m8 112 rfl
theorem q1922 : (Jvm.Cond.instanceMethod ({ cls := "HookSwingsModel", name := "isBarred", desc := "()Z" } : Jvm.MethodName)) ∈ lw_all := lw_g (lw_at lw_m8 113 rfl) rfl
theorem q1923 : (Jvm.Cond.code ({ cls := "HookSwingsModel", name := "isBarred", desc := "()Z" } : Jvm.MethodName) prog_19_method_118_code (3 : Nat) (Option.some Jvm.ClassFile.FieldType.boolean)) ∈ lw_all := lw_g (lw_at lw_m8 114 rfl) rfl
theorem q1925 : (Jvm.Cond.instanceMethod ({ cls := "HookSwingsModel", name := "dayEnds", desc := "(II)I" } : Jvm.MethodName)) ∈ lw_all := lw_g (lw_at lw_m8 116 rfl) rfl
theorem q1926 : (Jvm.Cond.selects "HookSwingsModel" ({ cls := "HookSwingsModel", name := "dayEnds", desc := "(II)I" } : Jvm.MethodName) ({ cls := "HookSwingsModel", name := "dayEnds", desc := "(II)I" } : Jvm.MethodName)) ∈ lw_all := lw_g (lw_at lw_m8 117 rfl) rfl
theorem q1927 : (Jvm.Cond.code ({ cls := "HookSwingsModel", name := "dayEnds", desc := "(II)I" } : Jvm.MethodName) prog_19_method_120_code (4 : Nat) (Option.some Jvm.ClassFile.FieldType.int)) ∈ lw_all := lw_g (lw_at lw_m8 118 rfl) rfl
theorem q1928 : (Jvm.Cond.methodLink "HookSwingsModel" (436 : Nat) ({ cls := "HookSwingsModel", name := "isTooMuch", desc := "(III)Z" } : Jvm.MethodName)) ∈ lw_all := lw_g (lw_at lw_m8 119 rfl) rfl
theorem q1929 : (Jvm.Cond.privateMethod ({ cls := "HookSwingsModel", name := "isTooMuch", desc := "(III)Z" } : Jvm.MethodName)) ∈ lw_tbl := lw_at lw_m8 120 rfl
theorem q1930 : (Jvm.Cond.instanceMethod ({ cls := "HookSwingsModel", name := "isTooMuch", desc := "(III)Z" } : Jvm.MethodName)) ∈ lw_all := lw_g (lw_at lw_m8 121 rfl) rfl
theorem q1931 : (Jvm.Cond.code ({ cls := "HookSwingsModel", name := "isTooMuch", desc := "(III)Z" } : Jvm.MethodName) prog_19_method_108_code (6 : Nat) (Option.some Jvm.ClassFile.FieldType.boolean)) ∈ lw_all := lw_g (lw_at lw_m8 122 rfl) rfl
theorem q1933 : (Jvm.Cond.instanceMethod ({ cls := "HookSwingsModel", name := "howFar", desc := "(I)I" } : Jvm.MethodName)) ∈ lw_all := lw_g (lw_at lw_m8 124 rfl) rfl
theorem q1934 : (Jvm.Cond.selects "HookSwingsModel" ({ cls := "HookSwingsModel", name := "howFar", desc := "(I)I" } : Jvm.MethodName) ({ cls := "HookSwingsModel", name := "howFar", desc := "(I)I" } : Jvm.MethodName)) ∈ lw_all := lw_g (lw_at lw_m8 125 rfl) rfl
theorem q1935 : (Jvm.Cond.code ({ cls := "HookSwingsModel", name := "howFar", desc := "(I)I" } : Jvm.MethodName) prog_19_method_121_code (3 : Nat) (Option.some Jvm.ClassFile.FieldType.int)) ∈ lw_all := lw_g (lw_at lw_m8 126 rfl) rfl
theorem q1937 : (Jvm.Cond.instanceMethod ({ cls := "HookSwingsModel", name := "over", desc := "()I" } : Jvm.MethodName)) ∈ lw_all := lw_g (lw_at lw_m8 128 rfl) rfl
theorem q1938 : (Jvm.Cond.selects "HookSwingsModel" ({ cls := "HookSwingsModel", name := "over", desc := "()I" } : Jvm.MethodName) ({ cls := "HookSwingsModel", name := "over", desc := "()I" } : Jvm.MethodName)) ∈ lw_all := lw_g (lw_at lw_m8 129 rfl) rfl
theorem q1939 : (Jvm.Cond.code ({ cls := "HookSwingsModel", name := "over", desc := "()I" } : Jvm.MethodName) prog_19_method_122_code (3 : Nat) (Option.some Jvm.ClassFile.FieldType.int)) ∈ lw_all := lw_g (lw_at lw_m8 130 rfl) rfl
theorem q1941 : (Jvm.Cond.instanceMethod ({ cls := "HookSwingsModel", name := "first", desc := "(II)I" } : Jvm.MethodName)) ∈ lw_all := lw_g (lw_at lw_m8 132 rfl) rfl
theorem q1942 : (Jvm.Cond.selects "HookSwingsModel" ({ cls := "HookSwingsModel", name := "first", desc := "(II)I" } : Jvm.MethodName) ({ cls := "HookSwingsModel", name := "first", desc := "(II)I" } : Jvm.MethodName)) ∈ lw_all := lw_g (lw_at lw_m8 133 rfl) rfl
theorem q1943 : (Jvm.Cond.code ({ cls := "HookSwingsModel", name := "first", desc := "(II)I" } : Jvm.MethodName) prog_19_method_126_code (7 : Nat) (Option.some Jvm.ClassFile.FieldType.int)) ∈ lw_all := lw_g (lw_at lw_m8 134 rfl) rfl
theorem q1944 : (Jvm.Cond.methodLink "HookSwingsModel" (445 : Nat) ({ cls := "HookSwingsModel", name := "layMembers", desc := "(II)Z" } : Jvm.MethodName)) ∈ lw_all := lw_g (lw_at lw_m8 135 rfl) rfl
theorem q1945 : (Jvm.Cond.privateMethod ({ cls := "HookSwingsModel", name := "layMembers", desc := "(II)Z" } : Jvm.MethodName)) ∈ lw_tbl := lw_at lw_m8 136 rfl
theorem q1946 : (Jvm.Cond.instanceMethod ({ cls := "HookSwingsModel", name := "layMembers", desc := "(II)Z" } : Jvm.MethodName)) ∈ lw_all := lw_g (lw_at lw_m8 137 rfl) rfl
theorem q1947 : (Jvm.Cond.code ({ cls := "HookSwingsModel", name := "layMembers", desc := "(II)Z" } : Jvm.MethodName) prog_19_method_123_code (4 : Nat) (Option.some Jvm.ClassFile.FieldType.boolean)) ∈ lw_all := lw_g (lw_at lw_m8 138 rfl) rfl
theorem q1948 : (Jvm.Cond.methodLink "HookSwingsModel" (439 : Nat) ({ cls := "HookSwingsModel", name := "bits", desc := "(I)I" } : Jvm.MethodName)) ∈ lw_all := lw_g (lw_at lw_m8 139 rfl) rfl
theorem q1949 : (Jvm.Cond.static ({ cls := "HookSwingsModel", name := "bits", desc := "(I)I" } : Jvm.MethodName)) ∈ lw_all := lw_g (lw_at lw_m8 140 rfl) rfl
theorem q1950 : (Jvm.Cond.code ({ cls := "HookSwingsModel", name := "bits", desc := "(I)I" } : Jvm.MethodName) prog_19_method_7_code (3 : Nat) (Option.some Jvm.ClassFile.FieldType.int)) ∈ lw_all := lw_g (lw_at lw_m8 141 rfl) rfl
theorem q1951 : (Jvm.Cond.methodLink "HookSwingsModel" (448 : Nat) ({ cls := "HookSwingsModel", name := "waited", desc := "()I" } : Jvm.MethodName)) ∈ lw_all := lw_g (lw_at lw_m8 142 rfl) rfl
theorem q1952 : (Jvm.Cond.privateMethod ({ cls := "HookSwingsModel", name := "waited", desc := "()I" } : Jvm.MethodName)) ∈ lw_tbl := lw_at lw_m8 143 rfl
theorem q1953 : (Jvm.Cond.instanceMethod ({ cls := "HookSwingsModel", name := "waited", desc := "()I" } : Jvm.MethodName)) ∈ lw_all := lw_g (lw_at lw_m8 144 rfl) rfl
theorem q1954 : (Jvm.Cond.code ({ cls := "HookSwingsModel", name := "waited", desc := "()I" } : Jvm.MethodName) prog_19_method_125_code (5 : Nat) (Option.some Jvm.ClassFile.FieldType.int)) ∈ lw_all := lw_g (lw_at lw_m8 145 rfl) rfl
theorem q1955 : (Jvm.Cond.methodLink "HookSwingsModel" (451 : Nat) ({ cls := "HookSwingsModel", name := "nextRow", desc := "()Z" } : Jvm.MethodName)) ∈ lw_all := lw_g (lw_at lw_m8 146 rfl) rfl
theorem q1956 : (Jvm.Cond.privateMethod ({ cls := "HookSwingsModel", name := "nextRow", desc := "()Z" } : Jvm.MethodName)) ∈ lw_tbl := lw_at lw_m8 147 rfl
theorem q1957 : (Jvm.Cond.instanceMethod ({ cls := "HookSwingsModel", name := "nextRow", desc := "()Z" } : Jvm.MethodName)) ∈ lw_all := lw_g (lw_at lw_m8 148 rfl) rfl
theorem q1958 : (Jvm.Cond.code ({ cls := "HookSwingsModel", name := "nextRow", desc := "()Z" } : Jvm.MethodName) prog_19_method_124_code (6 : Nat) (Option.some Jvm.ClassFile.FieldType.boolean)) ∈ lw_all := lw_g (lw_at lw_m8 149 rfl) rfl
theorem q1960 : (Jvm.Cond.instanceMethod ({ cls := "HookSwingsModel", name := "twoJibs", desc := "(II)I" } : Jvm.MethodName)) ∈ lw_all := lw_g (lw_at lw_m8 151 rfl) rfl
theorem q1961 : (Jvm.Cond.selects "HookSwingsModel" ({ cls := "HookSwingsModel", name := "twoJibs", desc := "(II)I" } : Jvm.MethodName) ({ cls := "HookSwingsModel", name := "twoJibs", desc := "(II)I" } : Jvm.MethodName)) ∈ lw_all := lw_g (lw_at lw_m8 152 rfl) rfl
theorem q1962 : (Jvm.Cond.code ({ cls := "HookSwingsModel", name := "twoJibs", desc := "(II)I" } : Jvm.MethodName) prog_19_method_130_code (7 : Nat) (Option.some Jvm.ClassFile.FieldType.int)) ∈ lw_all := lw_g (lw_at lw_m8 153 rfl) rfl
theorem q1963 : (Jvm.Cond.methodLink "HookSwingsModel" (454 : Nat) ({ cls := "HookSwingsModel", name := "layJibs", desc := "(I)Z" } : Jvm.MethodName)) ∈ lw_all := lw_g (lw_at lw_m8 154 rfl) rfl
theorem q1964 : (Jvm.Cond.privateMethod ({ cls := "HookSwingsModel", name := "layJibs", desc := "(I)Z" } : Jvm.MethodName)) ∈ lw_tbl := lw_at lw_m8 155 rfl
theorem q1965 : (Jvm.Cond.instanceMethod ({ cls := "HookSwingsModel", name := "layJibs", desc := "(I)Z" } : Jvm.MethodName)) ∈ lw_all := lw_g (lw_at lw_m8 156 rfl) rfl
theorem q1966 : (Jvm.Cond.code ({ cls := "HookSwingsModel", name := "layJibs", desc := "(I)Z" } : Jvm.MethodName) prog_19_method_127_code (7 : Nat) (Option.some Jvm.ClassFile.FieldType.boolean)) ∈ lw_all := lw_g (lw_at lw_m8 157 rfl) rfl
theorem q1967 : (Jvm.Cond.methodLink "HookSwingsModel" (457 : Nat) ({ cls := "HookSwingsModel", name := "doneBy", desc := "()I" } : Jvm.MethodName)) ∈ lw_all := lw_g (lw_at lw_m8 158 rfl) rfl
theorem q1968 : (Jvm.Cond.privateMethod ({ cls := "HookSwingsModel", name := "doneBy", desc := "()I" } : Jvm.MethodName)) ∈ lw_tbl := lw_at lw_m8 159 rfl
theorem q1969 : (Jvm.Cond.instanceMethod ({ cls := "HookSwingsModel", name := "doneBy", desc := "()I" } : Jvm.MethodName)) ∈ lw_all := lw_g (lw_at lw_m8 160 rfl) rfl
theorem q1970 : (Jvm.Cond.code ({ cls := "HookSwingsModel", name := "doneBy", desc := "()I" } : Jvm.MethodName) prog_19_method_128_code (7 : Nat) (Option.some Jvm.ClassFile.FieldType.int)) ∈ lw_all := lw_g (lw_at lw_m8 161 rfl) rfl
theorem q1971 : (Jvm.Cond.methodLink "HookSwingsModel" (460 : Nat) ({ cls := "HookSwingsModel", name := "isAhead", desc := "()Z" } : Jvm.MethodName)) ∈ lw_all := lw_g (lw_at lw_m8 162 rfl) rfl
theorem q1972 : (Jvm.Cond.privateMethod ({ cls := "HookSwingsModel", name := "isAhead", desc := "()Z" } : Jvm.MethodName)) ∈ lw_tbl := lw_at lw_m8 163 rfl
theorem q1973 : (Jvm.Cond.instanceMethod ({ cls := "HookSwingsModel", name := "isAhead", desc := "()Z" } : Jvm.MethodName)) ∈ lw_all := lw_g (lw_at lw_m8 164 rfl) rfl
theorem q1974 : (Jvm.Cond.code ({ cls := "HookSwingsModel", name := "isAhead", desc := "()Z" } : Jvm.MethodName) prog_19_method_129_code (2 : Nat) (Option.some Jvm.ClassFile.FieldType.boolean)) ∈ lw_all := lw_g (lw_at lw_m8 165 rfl) rfl
theorem q1976 : (Jvm.Cond.instanceMethod ({ cls := "HookSwingsModel", name := "said", desc := "(IZ)I" } : Jvm.MethodName)) ∈ lw_all := lw_g (lw_at lw_m8 167 rfl) rfl
theorem q1977 : (Jvm.Cond.selects "HookSwingsModel" ({ cls := "HookSwingsModel", name := "said", desc := "(IZ)I" } : Jvm.MethodName) ({ cls := "HookSwingsModel", name := "said", desc := "(IZ)I" } : Jvm.MethodName)) ∈ lw_all := lw_g (lw_at lw_m8 168 rfl) rfl
theorem q1978 : (Jvm.Cond.code ({ cls := "HookSwingsModel", name := "said", desc := "(IZ)I" } : Jvm.MethodName) prog_19_method_131_code (3 : Nat) (Option.some Jvm.ClassFile.FieldType.int)) ∈ lw_all := lw_g (lw_at lw_m8 169 rfl) rfl
theorem q1980 : (Jvm.Cond.instanceMethod ({ cls := "HookSwingsModel", name := "left", desc := "(Z)J" } : Jvm.MethodName)) ∈ lw_all := lw_g (lw_at lw_m8 171 rfl) rfl
theorem q1981 : (Jvm.Cond.selects "HookSwingsModel" ({ cls := "HookSwingsModel", name := "left", desc := "(Z)J" } : Jvm.MethodName) ({ cls := "HookSwingsModel", name := "left", desc := "(Z)J" } : Jvm.MethodName)) ∈ lw_all := lw_g (lw_at lw_m8 172 rfl) rfl
theorem q1982 : (Jvm.Cond.code ({ cls := "HookSwingsModel", name := "left", desc := "(Z)J" } : Jvm.MethodName) prog_19_method_133_code (9 : Nat) (Option.some Jvm.ClassFile.FieldType.long)) ∈ lw_all := lw_g (lw_at lw_m8 173 rfl) rfl
theorem q1984 : (Jvm.Cond.instanceMethod ({ cls := "HookSwingsModel", name := "landed", desc := "(II)I" } : Jvm.MethodName)) ∈ lw_all := lw_g (lw_at lw_m8 175 rfl) rfl
theorem q1985 : (Jvm.Cond.selects "HookSwingsModel" ({ cls := "HookSwingsModel", name := "landed", desc := "(II)I" } : Jvm.MethodName) ({ cls := "HookSwingsModel", name := "landed", desc := "(II)I" } : Jvm.MethodName)) ∈ lw_all := lw_g (lw_at lw_m8 176 rfl) rfl
theorem q1986 : (Jvm.Cond.code ({ cls := "HookSwingsModel", name := "landed", desc := "(II)I" } : Jvm.MethodName) prog_19_method_136_code (3 : Nat) (Option.some Jvm.ClassFile.FieldType.int)) ∈ lw_all := lw_g (lw_at lw_m8 177 rfl) rfl
theorem q1987 : (Jvm.Cond.methodLink "HookSwingsModel" (463 : Nat) ({ cls := "HookSwingsModel", name := "shown", desc := "()I" } : Jvm.MethodName)) ∈ lw_all := lw_g (lw_at lw_m8 178 rfl) rfl
theorem q1988 : (Jvm.Cond.privateMethod ({ cls := "HookSwingsModel", name := "shown", desc := "()I" } : Jvm.MethodName)) ∈ lw_tbl := lw_at lw_m8 179 rfl
theorem q1989 : (Jvm.Cond.instanceMethod ({ cls := "HookSwingsModel", name := "shown", desc := "()I" } : Jvm.MethodName)) ∈ lw_all := lw_g (lw_at lw_m8 180 rfl) rfl
theorem q1990 : (Jvm.Cond.code ({ cls := "HookSwingsModel", name := "shown", desc := "()I" } : Jvm.MethodName) prog_19_method_134_code (1 : Nat) (Option.some Jvm.ClassFile.FieldType.int)) ∈ lw_all := lw_g (lw_at lw_m8 181 rfl) rfl
theorem q1991 : (Jvm.Cond.methodLink "HookSwingsModel" (466 : Nat) ({ cls := "HookSwingsModel", name := "downOf", desc := "(II)I" } : Jvm.MethodName)) ∈ lw_all := lw_g (lw_at lw_m8 182 rfl) rfl
theorem q1992 : (Jvm.Cond.privateMethod ({ cls := "HookSwingsModel", name := "downOf", desc := "(II)I" } : Jvm.MethodName)) ∈ lw_tbl := lw_at lw_m8 183 rfl
theorem q1993 : (Jvm.Cond.instanceMethod ({ cls := "HookSwingsModel", name := "downOf", desc := "(II)I" } : Jvm.MethodName)) ∈ lw_all := lw_g (lw_at lw_m8 184 rfl) rfl
theorem q1994 : (Jvm.Cond.code ({ cls := "HookSwingsModel", name := "downOf", desc := "(II)I" } : Jvm.MethodName) prog_19_method_135_code (3 : Nat) (Option.some Jvm.ClassFile.FieldType.int)) ∈ lw_all := lw_g (lw_at lw_m8 185 rfl) rfl
theorem q1996 : (Jvm.Cond.instanceMethod ({ cls := "HookSwingsModel", name := "hour", desc := "(I)I" } : Jvm.MethodName)) ∈ lw_all := lw_g (lw_at lw_m8 187 rfl) rfl
theorem q1997 : (Jvm.Cond.selects "HookSwingsModel" ({ cls := "HookSwingsModel", name := "hour", desc := "(I)I" } : Jvm.MethodName) ({ cls := "HookSwingsModel", name := "hour", desc := "(I)I" } : Jvm.MethodName)) ∈ lw_all := lw_g (lw_at lw_m8 188 rfl) rfl
theorem q1998 : (Jvm.Cond.code ({ cls := "HookSwingsModel", name := "hour", desc := "(I)I" } : Jvm.MethodName) prog_19_method_137_code (4 : Nat) (Option.some Jvm.ClassFile.FieldType.int)) ∈ lw_all := lw_g (lw_at lw_m8 189 rfl) rfl
theorem q2000 : (Jvm.Cond.instanceMethod ({ cls := "HookSwingsModel", name := "mean", desc := "(Z)I" } : Jvm.MethodName)) ∈ lw_all := lw_g (lw_at lw_m8 191 rfl) rfl
theorem q2001 : (Jvm.Cond.selects "HookSwingsModel" ({ cls := "HookSwingsModel", name := "mean", desc := "(Z)I" } : Jvm.MethodName) ({ cls := "HookSwingsModel", name := "mean", desc := "(Z)I" } : Jvm.MethodName)) ∈ lw_all := lw_g (lw_at lw_m8 192 rfl) rfl
theorem q2002 : (Jvm.Cond.code ({ cls := "HookSwingsModel", name := "mean", desc := "(Z)I" } : Jvm.MethodName) prog_19_method_138_code (5 : Nat) (Option.some Jvm.ClassFile.FieldType.int)) ∈ lw_all := lw_g (lw_at lw_m8 193 rfl) rfl
theorem q2004 : (Jvm.Cond.instanceMethod ({ cls := "HookSwingsModel", name := "image", desc := "()I" } : Jvm.MethodName)) ∈ lw_all := lw_g (lw_at lw_m8 195 rfl) rfl
theorem q2005 : (Jvm.Cond.selects "HookSwingsModel" ({ cls := "HookSwingsModel", name := "image", desc := "()I" } : Jvm.MethodName) ({ cls := "HookSwingsModel", name := "image", desc := "()I" } : Jvm.MethodName)) ∈ lw_all := lw_g (lw_at lw_m8 196 rfl) rfl
theorem q2006 : (Jvm.Cond.code ({ cls := "HookSwingsModel", name := "image", desc := "()I" } : Jvm.MethodName) prog_19_method_139_code (1 : Nat) (Option.some Jvm.ClassFile.FieldType.int)) ∈ lw_all := lw_g (lw_at lw_m8 197 rfl) rfl
theorem q2008 : (Jvm.Cond.instanceMethod ({ cls := "HookSwingsModel", name := "back", desc := "()I" } : Jvm.MethodName)) ∈ lw_all := lw_g (lw_at lw_m8 199 rfl) rfl
theorem q2009 : (Jvm.Cond.selects "HookSwingsModel" ({ cls := "HookSwingsModel", name := "back", desc := "()I" } : Jvm.MethodName) ({ cls := "HookSwingsModel", name := "back", desc := "()I" } : Jvm.MethodName)) ∈ lw_all := lw_g (lw_at lw_m8 200 rfl) rfl
theorem q2010 : (Jvm.Cond.code ({ cls := "HookSwingsModel", name := "back", desc := "()I" } : Jvm.MethodName) prog_19_method_140_code (1 : Nat) (Option.some Jvm.ClassFile.FieldType.int)) ∈ lw_all := lw_g (lw_at lw_m8 201 rfl) rfl
theorem q2012 : (Jvm.Cond.instanceMethod ({ cls := "HookSwingsModel", name := "about", desc := "(I)I" } : Jvm.MethodName)) ∈ lw_all := lw_g (lw_at lw_m8 203 rfl) rfl
theorem q2013 : (Jvm.Cond.selects "HookSwingsModel" ({ cls := "HookSwingsModel", name := "about", desc := "(I)I" } : Jvm.MethodName) ({ cls := "HookSwingsModel", name := "about", desc := "(I)I" } : Jvm.MethodName)) ∈ lw_all := lw_g (lw_at lw_m8 204 rfl) rfl
theorem q2014 : (Jvm.Cond.code ({ cls := "HookSwingsModel", name := "about", desc := "(I)I" } : Jvm.MethodName) prog_19_method_141_code (2 : Nat) (Option.some Jvm.ClassFile.FieldType.int)) ∈ lw_all := lw_g (lw_at lw_m8 205 rfl) rfl
theorem q2022 : (Jvm.Cond.castable "HookSwingsModel" "java/lang/Object") ∈ lw_tbl := lw_at lw_m8 213 rfl
theorem in_X2 : ∀ w ∈ wsX20, w ∈ lw_all := lw_in wsX20 [1386, 1388, 1390, 1392, 1394, 1396, 1398, 1400, 1402, 1404, 1406, 1408, 1410, 1412, 1414, 1416, 1418, 1420, 1422, 1424, 1426, 1428, 1430, 1432, 1434, 1436, 1438, 1440, 1442, 1444, 1446, 1448, 1450, 1452, 1454, 1456, 1458] (by decide +kernel) (by decide +kernel)
