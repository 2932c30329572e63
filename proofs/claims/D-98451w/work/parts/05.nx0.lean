/-! HookSwings -/
set_option maxRecDepth 100000
def RX0 : String := "HookSwings"
def TX0 : u_T := fun k => match k with
  | 0 => ("HookSwings", "now", "LHookSwings$State;", true)
  | 1 => ("HookSwings", "image", "LHookSwings$State;", true)
  | 2 => ("HookSwings", "tape", "[B", true)
  | 3 => ("HookSwings", "taped", "I", false)
  | 4 => ("HookSwings", "fault", "I", false)
  | 5 => ("HookSwings", "faultAt", "I", false)
  | 6 => ("HookSwings", "names", "[I", true)
  | 7 => ("HookSwings", "isWindStill", "Z", false)
  | 8 => ("HookSwings", "tried", "[I", true)
  | 9 => ("HookSwings", "greatest", "I", false)
  | 10 => ("HookSwings", "stillAt", "I", false)
  | 11 => ("HookSwings", "gone", "[[I", true)
  | 12 => ("HookSwings", "commands", "[I", true)
  | 13 => ("HookSwings", "waiting", "[I", true)
  | 14 => ("HookSwings", "which", "[I", true)
  | 15 => ("HookSwings", "lasts", "[I", true)
  | 16 => ("HookSwings", "row", "[I", true)
  | 17 => ("HookSwings", "best", "[I", true)
  | 18 => ("HookSwings", "begins", "[I", true)
  | 19 => ("HookSwings", "bestBegins", "[I", true)
  | 20 => ("HookSwings", "many", "I", false)
  | _ => ("HookSwings", "least", "I", false)
def tyX0 : Nat → FieldType := fun k => match k with
  | 0 => .object "HookSwings$State"
  | 1 => .object "HookSwings$State"
  | 2 => .array .byte
  | 3 => .int
  | 4 => .int
  | 5 => .int
  | 6 => .array .int
  | 7 => .boolean
  | 8 => .array .int
  | 9 => .int
  | 10 => .int
  | 11 => .array (.array .int)
  | 12 => .array .int
  | 13 => .array .int
  | 14 => .array .int
  | 15 => .array .int
  | 16 => .array .int
  | 17 => .array .int
  | 18 => .array .int
  | 19 => .array .int
  | 20 => .int
  | _ => .int
abbrev wsX00 : List Cond := u_ws RX0 TX0 22
set_option maxRecDepth 100000 in
theorem nmX0 : ∀ a, a < 22 → ∀ b, b < 22 → a ≠ b → (TX0 a).2.1 ≠ (TX0 b).2.1 := by decide +kernel
set_option maxRecDepth 100000 in
theorem tyX0_ok : ∀ k, k < 22 → parseFieldDescriptor (TX0 k).2.2.1 = some (tyX0 k) := by decide +kernel
abbrev cX0_init : ByteArray := prog_1_method_4_code
def yX0_init : MethodName := ⟨RX0, "<init>", "()V"⟩
def dkwX0_init_6 : List UInt8 := [42, 180, 0, 25, 42, 180, 0, 21, 182, 0, 75, 177]
abbrev dktX0_init_6 : List UInt8 := dkwX0_init_6 ++ []
def dkwX0_init_5 : List UInt8 := [42, 16, 8, 188, 10, 181, 0, 66, 42, 16, 8, 188, 10, 181, 0, 69, 42, 16, 8, 188, 10, 181, 0, 72]
abbrev dktX0_init_5 : List UInt8 := dkwX0_init_5 ++ dktX0_init_6
def dkwX0_init_4 : List UInt8 := [42, 16, 8, 188, 10, 181, 0, 57, 42, 16, 8, 188, 10, 181, 0, 60, 42, 16, 8, 188, 10, 181, 0, 63]
abbrev dktX0_init_4 : List UInt8 := dkwX0_init_4 ++ dktX0_init_5
def dkwX0_init_3 : List UInt8 := [197, 0, 46, 2, 181, 0, 48, 42, 16, 7, 188, 10, 181, 0, 51, 42, 17, 1, 157, 188, 10, 181, 0, 54]
abbrev dktX0_init_3 : List UInt8 := dkwX0_init_3 ++ dktX0_init_4
def dkwX0_init_2 : List UInt8 := [16, 53, 188, 10, 181, 0, 39, 42, 17, 1, 157, 188, 10, 181, 0, 43, 42, 16, 8, 17, 1, 157]
abbrev dktX0_init_2 : List UInt8 := dkwX0_init_2 ++ dktX0_init_3
def dkwX0_init_1 : List UInt8 := [181, 0, 25, 42, 17, 1, 44, 188, 8, 181, 0, 28, 42, 2, 181, 0, 32, 42, 2, 181, 0, 36, 42]
abbrev dktX0_init_1 : List UInt8 := dkwX0_init_1 ++ dktX0_init_2
def dkwX0_init_0 : List UInt8 := [42, 183, 0, 12, 42, 187, 0, 18, 89, 183, 0, 20, 181, 0, 21, 42, 187, 0, 18, 89, 183, 0, 20]
abbrev dktX0_init_0 : List UInt8 := dkwX0_init_0 ++ dktX0_init_1
theorem dksX0_init_0 : cX0_init.data.toList.drop 0 = dktX0_init_0 := by decide +kernel
theorem dksX0_init_1 : cX0_init.data.toList.drop 23 = dktX0_init_1 := dk_seg dksX0_init_0 23 rfl rfl
theorem dksX0_init_2 : cX0_init.data.toList.drop 46 = dktX0_init_2 := dk_seg dksX0_init_1 23 rfl rfl
theorem dksX0_init_3 : cX0_init.data.toList.drop 68 = dktX0_init_3 := dk_seg dksX0_init_2 22 rfl rfl
theorem dksX0_init_4 : cX0_init.data.toList.drop 92 = dktX0_init_4 := dk_seg dksX0_init_3 24 rfl rfl
theorem dksX0_init_5 : cX0_init.data.toList.drop 116 = dktX0_init_5 := dk_seg dksX0_init_4 24 rfl rfl
theorem dksX0_init_6 : cX0_init.data.toList.drop 140 = dktX0_init_6 := dk_seg dksX0_init_5 24 rfl rfl
theorem dX0_init_0 : decode cX0_init 0 = .ok (.aload_n 0, 1) := dk_42 (dk_at dksX0_init_0 0 rfl rfl)
theorem dX0_init_1 : decode cX0_init 1 = .ok (.invokespecial 12, 3) := dk_183 0 12 (dk_at dksX0_init_0 1 rfl rfl)
theorem dX0_init_4 : decode cX0_init 4 = .ok (.aload_n 0, 1) := dk_42 (dk_at dksX0_init_0 4 rfl rfl)
theorem dX0_init_5 : decode cX0_init 5 = .ok (.new 18, 3) := dk_187 0 18 (dk_at dksX0_init_0 5 rfl rfl)
theorem dX0_init_8 : decode cX0_init 8 = .ok (.dup, 1) := dk_89 (dk_at dksX0_init_0 8 rfl rfl)
theorem dX0_init_9 : decode cX0_init 9 = .ok (.invokespecial 20, 3) := dk_183 0 20 (dk_at dksX0_init_0 9 rfl rfl)
theorem dX0_init_12 : decode cX0_init 12 = .ok (.putfield 21, 3) := dk_181 0 21 (dk_at dksX0_init_0 12 rfl rfl)
theorem dX0_init_15 : decode cX0_init 15 = .ok (.aload_n 0, 1) := dk_42 (dk_at dksX0_init_0 15 rfl rfl)
theorem dX0_init_16 : decode cX0_init 16 = .ok (.new 18, 3) := dk_187 0 18 (dk_at dksX0_init_0 16 rfl rfl)
theorem dX0_init_19 : decode cX0_init 19 = .ok (.dup, 1) := dk_89 (dk_at dksX0_init_0 19 rfl rfl)
theorem dX0_init_20 : decode cX0_init 20 = .ok (.invokespecial 20, 3) := dk_183 0 20 (dk_at dksX0_init_0 20 rfl rfl)
theorem dX0_init_23 : decode cX0_init 23 = .ok (.putfield 25, 3) := dk_181 0 25 (dk_at dksX0_init_1 0 rfl rfl)
theorem dX0_init_26 : decode cX0_init 26 = .ok (.aload_n 0, 1) := dk_42 (dk_at dksX0_init_1 3 rfl rfl)
theorem dX0_init_27 : decode cX0_init 27 = .ok (.sipush 300, 3) := dk_17 1 44 (dk_at dksX0_init_1 4 rfl rfl)
theorem dX0_init_30 : decode cX0_init 30 = .ok (.newarray .byte, 2) := dk_188_8 (dk_at dksX0_init_1 7 rfl rfl)
theorem dX0_init_32 : decode cX0_init 32 = .ok (.putfield 28, 3) := dk_181 0 28 (dk_at dksX0_init_1 9 rfl rfl)
theorem dX0_init_35 : decode cX0_init 35 = .ok (.aload_n 0, 1) := dk_42 (dk_at dksX0_init_1 12 rfl rfl)
theorem dX0_init_36 : decode cX0_init 36 = .ok (.iconst (-1), 1) := dk_2 (dk_at dksX0_init_1 13 rfl rfl)
theorem dX0_init_37 : decode cX0_init 37 = .ok (.putfield 32, 3) := dk_181 0 32 (dk_at dksX0_init_1 14 rfl rfl)
theorem dX0_init_40 : decode cX0_init 40 = .ok (.aload_n 0, 1) := dk_42 (dk_at dksX0_init_1 17 rfl rfl)
theorem dX0_init_41 : decode cX0_init 41 = .ok (.iconst (-1), 1) := dk_2 (dk_at dksX0_init_1 18 rfl rfl)
theorem dX0_init_42 : decode cX0_init 42 = .ok (.putfield 36, 3) := dk_181 0 36 (dk_at dksX0_init_1 19 rfl rfl)
theorem dX0_init_45 : decode cX0_init 45 = .ok (.aload_n 0, 1) := dk_42 (dk_at dksX0_init_1 22 rfl rfl)
theorem dX0_init_46 : decode cX0_init 46 = .ok (.bipush 53, 2) := dk_16 53 (dk_at dksX0_init_2 0 rfl rfl)
theorem dX0_init_48 : decode cX0_init 48 = .ok (.newarray .int, 2) := dk_188_10 (dk_at dksX0_init_2 2 rfl rfl)
theorem dX0_init_50 : decode cX0_init 50 = .ok (.putfield 39, 3) := dk_181 0 39 (dk_at dksX0_init_2 4 rfl rfl)
theorem dX0_init_53 : decode cX0_init 53 = .ok (.aload_n 0, 1) := dk_42 (dk_at dksX0_init_2 7 rfl rfl)
theorem dX0_init_54 : decode cX0_init 54 = .ok (.sipush 413, 3) := dk_17 1 157 (dk_at dksX0_init_2 8 rfl rfl)
theorem dX0_init_57 : decode cX0_init 57 = .ok (.newarray .int, 2) := dk_188_10 (dk_at dksX0_init_2 11 rfl rfl)
theorem dX0_init_59 : decode cX0_init 59 = .ok (.putfield 43, 3) := dk_181 0 43 (dk_at dksX0_init_2 13 rfl rfl)
theorem dX0_init_62 : decode cX0_init 62 = .ok (.aload_n 0, 1) := dk_42 (dk_at dksX0_init_2 16 rfl rfl)
theorem dX0_init_63 : decode cX0_init 63 = .ok (.bipush 8, 2) := dk_16 8 (dk_at dksX0_init_2 17 rfl rfl)
theorem dX0_init_65 : decode cX0_init 65 = .ok (.sipush 413, 3) := dk_17 1 157 (dk_at dksX0_init_2 19 rfl rfl)
theorem dX0_init_68 : decode cX0_init 68 = .ok (.multianewarray 46 2, 4) := by decide +kernel
theorem dX0_init_72 : decode cX0_init 72 = .ok (.putfield 48, 3) := dk_181 0 48 (dk_at dksX0_init_3 4 rfl rfl)
theorem dX0_init_75 : decode cX0_init 75 = .ok (.aload_n 0, 1) := dk_42 (dk_at dksX0_init_3 7 rfl rfl)
theorem dX0_init_76 : decode cX0_init 76 = .ok (.bipush 7, 2) := dk_16 7 (dk_at dksX0_init_3 8 rfl rfl)
theorem dX0_init_78 : decode cX0_init 78 = .ok (.newarray .int, 2) := dk_188_10 (dk_at dksX0_init_3 10 rfl rfl)
theorem dX0_init_80 : decode cX0_init 80 = .ok (.putfield 51, 3) := dk_181 0 51 (dk_at dksX0_init_3 12 rfl rfl)
theorem dX0_init_83 : decode cX0_init 83 = .ok (.aload_n 0, 1) := dk_42 (dk_at dksX0_init_3 15 rfl rfl)
theorem dX0_init_84 : decode cX0_init 84 = .ok (.sipush 413, 3) := dk_17 1 157 (dk_at dksX0_init_3 16 rfl rfl)
theorem dX0_init_87 : decode cX0_init 87 = .ok (.newarray .int, 2) := dk_188_10 (dk_at dksX0_init_3 19 rfl rfl)
theorem dX0_init_89 : decode cX0_init 89 = .ok (.putfield 54, 3) := dk_181 0 54 (dk_at dksX0_init_3 21 rfl rfl)
theorem dX0_init_92 : decode cX0_init 92 = .ok (.aload_n 0, 1) := dk_42 (dk_at dksX0_init_4 0 rfl rfl)
theorem dX0_init_93 : decode cX0_init 93 = .ok (.bipush 8, 2) := dk_16 8 (dk_at dksX0_init_4 1 rfl rfl)
theorem dX0_init_95 : decode cX0_init 95 = .ok (.newarray .int, 2) := dk_188_10 (dk_at dksX0_init_4 3 rfl rfl)
theorem dX0_init_97 : decode cX0_init 97 = .ok (.putfield 57, 3) := dk_181 0 57 (dk_at dksX0_init_4 5 rfl rfl)
theorem dX0_init_100 : decode cX0_init 100 = .ok (.aload_n 0, 1) := dk_42 (dk_at dksX0_init_4 8 rfl rfl)
theorem dX0_init_101 : decode cX0_init 101 = .ok (.bipush 8, 2) := dk_16 8 (dk_at dksX0_init_4 9 rfl rfl)
theorem dX0_init_103 : decode cX0_init 103 = .ok (.newarray .int, 2) := dk_188_10 (dk_at dksX0_init_4 11 rfl rfl)
theorem dX0_init_105 : decode cX0_init 105 = .ok (.putfield 60, 3) := dk_181 0 60 (dk_at dksX0_init_4 13 rfl rfl)
theorem dX0_init_108 : decode cX0_init 108 = .ok (.aload_n 0, 1) := dk_42 (dk_at dksX0_init_4 16 rfl rfl)
theorem dX0_init_109 : decode cX0_init 109 = .ok (.bipush 8, 2) := dk_16 8 (dk_at dksX0_init_4 17 rfl rfl)
theorem dX0_init_111 : decode cX0_init 111 = .ok (.newarray .int, 2) := dk_188_10 (dk_at dksX0_init_4 19 rfl rfl)
theorem dX0_init_113 : decode cX0_init 113 = .ok (.putfield 63, 3) := dk_181 0 63 (dk_at dksX0_init_4 21 rfl rfl)
theorem dX0_init_116 : decode cX0_init 116 = .ok (.aload_n 0, 1) := dk_42 (dk_at dksX0_init_5 0 rfl rfl)
theorem dX0_init_117 : decode cX0_init 117 = .ok (.bipush 8, 2) := dk_16 8 (dk_at dksX0_init_5 1 rfl rfl)
theorem dX0_init_119 : decode cX0_init 119 = .ok (.newarray .int, 2) := dk_188_10 (dk_at dksX0_init_5 3 rfl rfl)
theorem dX0_init_121 : decode cX0_init 121 = .ok (.putfield 66, 3) := dk_181 0 66 (dk_at dksX0_init_5 5 rfl rfl)
theorem dX0_init_124 : decode cX0_init 124 = .ok (.aload_n 0, 1) := dk_42 (dk_at dksX0_init_5 8 rfl rfl)
theorem dX0_init_125 : decode cX0_init 125 = .ok (.bipush 8, 2) := dk_16 8 (dk_at dksX0_init_5 9 rfl rfl)
theorem dX0_init_127 : decode cX0_init 127 = .ok (.newarray .int, 2) := dk_188_10 (dk_at dksX0_init_5 11 rfl rfl)
theorem dX0_init_129 : decode cX0_init 129 = .ok (.putfield 69, 3) := dk_181 0 69 (dk_at dksX0_init_5 13 rfl rfl)
theorem dX0_init_132 : decode cX0_init 132 = .ok (.aload_n 0, 1) := dk_42 (dk_at dksX0_init_5 16 rfl rfl)
theorem dX0_init_133 : decode cX0_init 133 = .ok (.bipush 8, 2) := dk_16 8 (dk_at dksX0_init_5 17 rfl rfl)
theorem dX0_init_135 : decode cX0_init 135 = .ok (.newarray .int, 2) := dk_188_10 (dk_at dksX0_init_5 19 rfl rfl)
theorem dX0_init_137 : decode cX0_init 137 = .ok (.putfield 72, 3) := dk_181 0 72 (dk_at dksX0_init_5 21 rfl rfl)
theorem dX0_init_140 : decode cX0_init 140 = .ok (.aload_n 0, 1) := dk_42 (dk_at dksX0_init_6 0 rfl rfl)
theorem dX0_init_141 : decode cX0_init 141 = .ok (.getfield 25, 3) := dk_180 0 25 (dk_at dksX0_init_6 1 rfl rfl)
theorem dX0_init_144 : decode cX0_init 144 = .ok (.aload_n 0, 1) := dk_42 (dk_at dksX0_init_6 4 rfl rfl)
theorem dX0_init_145 : decode cX0_init 145 = .ok (.getfield 21, 3) := dk_180 0 21 (dk_at dksX0_init_6 5 rfl rfl)
theorem dX0_init_148 : decode cX0_init 148 = .ok (.invokevirtual 75, 3) := dk_182 0 75 (dk_at dksX0_init_6 8 rfl rfl)
theorem dX0_init_151 : decode cX0_init 151 = .ok (.return_, 1) := dk_177 (dk_at dksX0_init_6 11 rfl rfl)
abbrev cX0_order : ByteArray := prog_1_method_6_code
def yX0_order : MethodName := ⟨RX0, "order", "(IIIII)I"⟩
def dkwX0_order_5 : List UInt8 := [180, 0, 79, 3, 92, 46, 4, 96, 79, 21, 6, 172]
abbrev dktX0_order_5 : List UInt8 := dkwX0_order_5 ++ []
def dkwX0_order_4 : List UInt8 := [21, 5, 79, 58, 7, 25, 7, 42, 180, 0, 21, 180, 0, 86, 21, 6, 50, 184, 0, 89, 42, 180, 0, 21]
abbrev dktX0_order_4 : List UInt8 := dkwX0_order_4 ++ dktX0_order_5
def dkwX0_order_3 : List UInt8 := [172, 8, 188, 10, 89, 3, 27, 79, 89, 4, 28, 79, 89, 5, 29, 79, 89, 6, 21, 4, 79, 89, 7]
abbrev dktX0_order_3 : List UInt8 := dkwX0_order_3 ++ dktX0_order_4
def dkwX0_order_2 : List UInt8 := [184, 0, 82, 153, 0, 20, 21, 5, 3, 4, 184, 0, 82, 153, 0, 10, 21, 6, 16, 8, 160, 0, 5, 2]
abbrev dktX0_order_2 : List UInt8 := dkwX0_order_2 ++ dktX0_order_3
def dkwX0_order_1 : List UInt8 := [16, 60, 184, 0, 82, 153, 0, 42, 29, 3, 17, 3, 231, 184, 0, 82, 153, 0, 31, 21, 4, 3, 16, 9]
abbrev dktX0_order_1 : List UInt8 := dkwX0_order_1 ++ dktX0_order_2
def dkwX0_order_0 : List UInt8 := [42, 180, 0, 21, 180, 0, 79, 3, 46, 54, 6, 27, 4, 16, 99, 184, 0, 82, 153, 0, 52, 28, 3]
abbrev dktX0_order_0 : List UInt8 := dkwX0_order_0 ++ dktX0_order_1
theorem dksX0_order_0 : cX0_order.data.toList.drop 0 = dktX0_order_0 := by decide +kernel
theorem dksX0_order_1 : cX0_order.data.toList.drop 23 = dktX0_order_1 := dk_seg dksX0_order_0 23 rfl rfl
theorem dksX0_order_2 : cX0_order.data.toList.drop 47 = dktX0_order_2 := dk_seg dksX0_order_1 24 rfl rfl
theorem dksX0_order_3 : cX0_order.data.toList.drop 71 = dktX0_order_3 := dk_seg dksX0_order_2 24 rfl rfl
theorem dksX0_order_4 : cX0_order.data.toList.drop 94 = dktX0_order_4 := dk_seg dksX0_order_3 23 rfl rfl
theorem dksX0_order_5 : cX0_order.data.toList.drop 118 = dktX0_order_5 := dk_seg dksX0_order_4 24 rfl rfl
theorem dX0_order_0 : decode cX0_order 0 = .ok (.aload_n 0, 1) := dk_42 (dk_at dksX0_order_0 0 rfl rfl)
theorem dX0_order_1 : decode cX0_order 1 = .ok (.getfield 21, 3) := dk_180 0 21 (dk_at dksX0_order_0 1 rfl rfl)
theorem dX0_order_4 : decode cX0_order 4 = .ok (.getfield 79, 3) := dk_180 0 79 (dk_at dksX0_order_0 4 rfl rfl)
theorem dX0_order_7 : decode cX0_order 7 = .ok (.iconst 0, 1) := dk_3 (dk_at dksX0_order_0 7 rfl rfl)
theorem dX0_order_8 : decode cX0_order 8 = .ok (.iaload, 1) := dk_46 (dk_at dksX0_order_0 8 rfl rfl)
theorem dX0_order_9 : decode cX0_order 9 = .ok (.istore 6, 2) := dk_54 6 (dk_at dksX0_order_0 9 rfl rfl)
theorem dX0_order_11 : decode cX0_order 11 = .ok (.iload_n 1, 1) := dk_27 (dk_at dksX0_order_0 11 rfl rfl)
theorem dX0_order_12 : decode cX0_order 12 = .ok (.iconst 1, 1) := dk_4 (dk_at dksX0_order_0 12 rfl rfl)
theorem dX0_order_13 : decode cX0_order 13 = .ok (.bipush 99, 2) := dk_16 99 (dk_at dksX0_order_0 13 rfl rfl)
theorem dX0_order_15 : decode cX0_order 15 = .ok (.invokestatic 82, 3) := dk_184 0 82 (dk_at dksX0_order_0 15 rfl rfl)
theorem dX0_order_18 : decode cX0_order 18 = .ok (.ifCond .eq 52, 3) := dk_153 0 52 (dk_at dksX0_order_0 18 rfl rfl)
theorem dX0_order_21 : decode cX0_order 21 = .ok (.iload_n 2, 1) := dk_28 (dk_at dksX0_order_0 21 rfl rfl)
theorem dX0_order_22 : decode cX0_order 22 = .ok (.iconst 0, 1) := dk_3 (dk_at dksX0_order_0 22 rfl rfl)
theorem dX0_order_23 : decode cX0_order 23 = .ok (.bipush 60, 2) := dk_16 60 (dk_at dksX0_order_1 0 rfl rfl)
theorem dX0_order_25 : decode cX0_order 25 = .ok (.invokestatic 82, 3) := dk_184 0 82 (dk_at dksX0_order_1 2 rfl rfl)
theorem dX0_order_28 : decode cX0_order 28 = .ok (.ifCond .eq 42, 3) := dk_153 0 42 (dk_at dksX0_order_1 5 rfl rfl)
theorem dX0_order_31 : decode cX0_order 31 = .ok (.iload_n 3, 1) := dk_29 (dk_at dksX0_order_1 8 rfl rfl)
theorem dX0_order_32 : decode cX0_order 32 = .ok (.iconst 0, 1) := dk_3 (dk_at dksX0_order_1 9 rfl rfl)
theorem dX0_order_33 : decode cX0_order 33 = .ok (.sipush 999, 3) := dk_17 3 231 (dk_at dksX0_order_1 10 rfl rfl)
theorem dX0_order_36 : decode cX0_order 36 = .ok (.invokestatic 82, 3) := dk_184 0 82 (dk_at dksX0_order_1 13 rfl rfl)
theorem dX0_order_39 : decode cX0_order 39 = .ok (.ifCond .eq 31, 3) := dk_153 0 31 (dk_at dksX0_order_1 16 rfl rfl)
theorem dX0_order_42 : decode cX0_order 42 = .ok (.iload 4, 2) := dk_21 4 (dk_at dksX0_order_1 19 rfl rfl)
theorem dX0_order_44 : decode cX0_order 44 = .ok (.iconst 0, 1) := dk_3 (dk_at dksX0_order_1 21 rfl rfl)
theorem dX0_order_45 : decode cX0_order 45 = .ok (.bipush 9, 2) := dk_16 9 (dk_at dksX0_order_1 22 rfl rfl)
theorem dX0_order_47 : decode cX0_order 47 = .ok (.invokestatic 82, 3) := dk_184 0 82 (dk_at dksX0_order_2 0 rfl rfl)
theorem dX0_order_50 : decode cX0_order 50 = .ok (.ifCond .eq 20, 3) := dk_153 0 20 (dk_at dksX0_order_2 3 rfl rfl)
theorem dX0_order_53 : decode cX0_order 53 = .ok (.iload 5, 2) := dk_21 5 (dk_at dksX0_order_2 6 rfl rfl)
theorem dX0_order_55 : decode cX0_order 55 = .ok (.iconst 0, 1) := dk_3 (dk_at dksX0_order_2 8 rfl rfl)
theorem dX0_order_56 : decode cX0_order 56 = .ok (.iconst 1, 1) := dk_4 (dk_at dksX0_order_2 9 rfl rfl)
theorem dX0_order_57 : decode cX0_order 57 = .ok (.invokestatic 82, 3) := dk_184 0 82 (dk_at dksX0_order_2 10 rfl rfl)
theorem dX0_order_60 : decode cX0_order 60 = .ok (.ifCond .eq 10, 3) := dk_153 0 10 (dk_at dksX0_order_2 13 rfl rfl)
theorem dX0_order_63 : decode cX0_order 63 = .ok (.iload 6, 2) := dk_21 6 (dk_at dksX0_order_2 16 rfl rfl)
theorem dX0_order_65 : decode cX0_order 65 = .ok (.bipush 8, 2) := dk_16 8 (dk_at dksX0_order_2 18 rfl rfl)
theorem dX0_order_67 : decode cX0_order 67 = .ok (.if_icmp .ne 5, 3) := dk_160 0 5 (dk_at dksX0_order_2 20 rfl rfl)
theorem dX0_order_70 : decode cX0_order 70 = .ok (.iconst (-1), 1) := dk_2 (dk_at dksX0_order_2 23 rfl rfl)
theorem dX0_order_71 : decode cX0_order 71 = .ok (.ireturn, 1) := dk_172 (dk_at dksX0_order_3 0 rfl rfl)
theorem dX0_order_72 : decode cX0_order 72 = .ok (.iconst 5, 1) := dk_8 (dk_at dksX0_order_3 1 rfl rfl)
theorem dX0_order_73 : decode cX0_order 73 = .ok (.newarray .int, 2) := dk_188_10 (dk_at dksX0_order_3 2 rfl rfl)
theorem dX0_order_75 : decode cX0_order 75 = .ok (.dup, 1) := dk_89 (dk_at dksX0_order_3 4 rfl rfl)
theorem dX0_order_76 : decode cX0_order 76 = .ok (.iconst 0, 1) := dk_3 (dk_at dksX0_order_3 5 rfl rfl)
theorem dX0_order_77 : decode cX0_order 77 = .ok (.iload_n 1, 1) := dk_27 (dk_at dksX0_order_3 6 rfl rfl)
theorem dX0_order_78 : decode cX0_order 78 = .ok (.iastore, 1) := dk_79 (dk_at dksX0_order_3 7 rfl rfl)
theorem dX0_order_79 : decode cX0_order 79 = .ok (.dup, 1) := dk_89 (dk_at dksX0_order_3 8 rfl rfl)
theorem dX0_order_80 : decode cX0_order 80 = .ok (.iconst 1, 1) := dk_4 (dk_at dksX0_order_3 9 rfl rfl)
theorem dX0_order_81 : decode cX0_order 81 = .ok (.iload_n 2, 1) := dk_28 (dk_at dksX0_order_3 10 rfl rfl)
theorem dX0_order_82 : decode cX0_order 82 = .ok (.iastore, 1) := dk_79 (dk_at dksX0_order_3 11 rfl rfl)
theorem dX0_order_83 : decode cX0_order 83 = .ok (.dup, 1) := dk_89 (dk_at dksX0_order_3 12 rfl rfl)
theorem dX0_order_84 : decode cX0_order 84 = .ok (.iconst 2, 1) := dk_5 (dk_at dksX0_order_3 13 rfl rfl)
theorem dX0_order_85 : decode cX0_order 85 = .ok (.iload_n 3, 1) := dk_29 (dk_at dksX0_order_3 14 rfl rfl)
theorem dX0_order_86 : decode cX0_order 86 = .ok (.iastore, 1) := dk_79 (dk_at dksX0_order_3 15 rfl rfl)
theorem dX0_order_87 : decode cX0_order 87 = .ok (.dup, 1) := dk_89 (dk_at dksX0_order_3 16 rfl rfl)
theorem dX0_order_88 : decode cX0_order 88 = .ok (.iconst 3, 1) := dk_6 (dk_at dksX0_order_3 17 rfl rfl)
theorem dX0_order_89 : decode cX0_order 89 = .ok (.iload 4, 2) := dk_21 4 (dk_at dksX0_order_3 18 rfl rfl)
theorem dX0_order_91 : decode cX0_order 91 = .ok (.iastore, 1) := dk_79 (dk_at dksX0_order_3 20 rfl rfl)
theorem dX0_order_92 : decode cX0_order 92 = .ok (.dup, 1) := dk_89 (dk_at dksX0_order_3 21 rfl rfl)
theorem dX0_order_93 : decode cX0_order 93 = .ok (.iconst 4, 1) := dk_7 (dk_at dksX0_order_3 22 rfl rfl)
theorem dX0_order_94 : decode cX0_order 94 = .ok (.iload 5, 2) := dk_21 5 (dk_at dksX0_order_4 0 rfl rfl)
theorem dX0_order_96 : decode cX0_order 96 = .ok (.iastore, 1) := dk_79 (dk_at dksX0_order_4 2 rfl rfl)
theorem dX0_order_97 : decode cX0_order 97 = .ok (.astore 7, 2) := dk_58 7 (dk_at dksX0_order_4 3 rfl rfl)
theorem dX0_order_99 : decode cX0_order 99 = .ok (.aload 7, 2) := dk_25 7 (dk_at dksX0_order_4 5 rfl rfl)
theorem dX0_order_101 : decode cX0_order 101 = .ok (.aload_n 0, 1) := dk_42 (dk_at dksX0_order_4 7 rfl rfl)
theorem dX0_order_102 : decode cX0_order 102 = .ok (.getfield 21, 3) := dk_180 0 21 (dk_at dksX0_order_4 8 rfl rfl)
theorem dX0_order_105 : decode cX0_order 105 = .ok (.getfield 86, 3) := dk_180 0 86 (dk_at dksX0_order_4 11 rfl rfl)
theorem dX0_order_108 : decode cX0_order 108 = .ok (.iload 6, 2) := dk_21 6 (dk_at dksX0_order_4 14 rfl rfl)
theorem dX0_order_110 : decode cX0_order 110 = .ok (.aaload, 1) := dk_50 (dk_at dksX0_order_4 16 rfl rfl)
theorem dX0_order_111 : decode cX0_order 111 = .ok (.invokestatic 89, 3) := dk_184 0 89 (dk_at dksX0_order_4 17 rfl rfl)
theorem dX0_order_114 : decode cX0_order 114 = .ok (.aload_n 0, 1) := dk_42 (dk_at dksX0_order_4 20 rfl rfl)
theorem dX0_order_115 : decode cX0_order 115 = .ok (.getfield 21, 3) := dk_180 0 21 (dk_at dksX0_order_4 21 rfl rfl)
theorem dX0_order_118 : decode cX0_order 118 = .ok (.getfield 79, 3) := dk_180 0 79 (dk_at dksX0_order_5 0 rfl rfl)
theorem dX0_order_121 : decode cX0_order 121 = .ok (.iconst 0, 1) := dk_3 (dk_at dksX0_order_5 3 rfl rfl)
theorem dX0_order_122 : decode cX0_order 122 = .ok (.dup2, 1) := dk_92 (dk_at dksX0_order_5 4 rfl rfl)
theorem dX0_order_123 : decode cX0_order 123 = .ok (.iaload, 1) := dk_46 (dk_at dksX0_order_5 5 rfl rfl)
theorem dX0_order_124 : decode cX0_order 124 = .ok (.iconst 1, 1) := dk_4 (dk_at dksX0_order_5 6 rfl rfl)
theorem dX0_order_125 : decode cX0_order 125 = .ok (.iadd, 1) := dk_96 (dk_at dksX0_order_5 7 rfl rfl)
theorem dX0_order_126 : decode cX0_order 126 = .ok (.iastore, 1) := dk_79 (dk_at dksX0_order_5 8 rfl rfl)
theorem dX0_order_127 : decode cX0_order 127 = .ok (.iload 6, 2) := dk_21 6 (dk_at dksX0_order_5 9 rfl rfl)
theorem dX0_order_129 : decode cX0_order 129 = .ok (.ireturn, 1) := dk_172 (dk_at dksX0_order_5 11 rfl rfl)
abbrev cX0_in : ByteArray := prog_1_method_1_code
def yX0_in : MethodName := ⟨RX0, "in", "(III)Z"⟩
def dkwX0_in_0 : List UInt8 := [26, 27, 161, 0, 12, 26, 28, 163, 0, 7, 4, 167, 0, 4, 3, 172]
abbrev dktX0_in_0 : List UInt8 := dkwX0_in_0 ++ []
theorem dksX0_in_0 : cX0_in.data.toList.drop 0 = dktX0_in_0 := by decide +kernel
theorem dX0_in_0 : decode cX0_in 0 = .ok (.iload_n 0, 1) := dk_26 (dk_at dksX0_in_0 0 rfl rfl)
theorem dX0_in_1 : decode cX0_in 1 = .ok (.iload_n 1, 1) := dk_27 (dk_at dksX0_in_0 1 rfl rfl)
theorem dX0_in_2 : decode cX0_in 2 = .ok (.if_icmp .lt 12, 3) := dk_161 0 12 (dk_at dksX0_in_0 2 rfl rfl)
theorem dX0_in_5 : decode cX0_in 5 = .ok (.iload_n 0, 1) := dk_26 (dk_at dksX0_in_0 5 rfl rfl)
theorem dX0_in_6 : decode cX0_in 6 = .ok (.iload_n 2, 1) := dk_28 (dk_at dksX0_in_0 6 rfl rfl)
theorem dX0_in_7 : decode cX0_in 7 = .ok (.if_icmp .gt 7, 3) := dk_163 0 7 (dk_at dksX0_in_0 7 rfl rfl)
theorem dX0_in_10 : decode cX0_in 10 = .ok (.iconst 1, 1) := dk_4 (dk_at dksX0_in_0 10 rfl rfl)
theorem dX0_in_11 : decode cX0_in 11 = .ok (.goto 4, 3) := dk_167 0 4 (dk_at dksX0_in_0 11 rfl rfl)
theorem dX0_in_14 : decode cX0_in 14 = .ok (.iconst 0, 1) := dk_3 (dk_at dksX0_in_0 14 rfl rfl)
theorem dX0_in_15 : decode cX0_in 15 = .ok (.ireturn, 1) := dk_172 (dk_at dksX0_in_0 15 rfl rfl)
abbrev cX0_near : ByteArray := prog_1_method_7_code
def yX0_near : MethodName := ⟨RX0, "near", "(I)Z"⟩
def dkwX0_near_0 : List UInt8 := [27, 3, 16, 99, 184, 0, 82, 154, 0, 5, 3, 172, 42, 180, 0, 21, 180, 0, 79, 4, 27, 79, 4, 172]
abbrev dktX0_near_0 : List UInt8 := dkwX0_near_0 ++ []
theorem dksX0_near_0 : cX0_near.data.toList.drop 0 = dktX0_near_0 := by decide +kernel
theorem dX0_near_0 : decode cX0_near 0 = .ok (.iload_n 1, 1) := dk_27 (dk_at dksX0_near_0 0 rfl rfl)
theorem dX0_near_1 : decode cX0_near 1 = .ok (.iconst 0, 1) := dk_3 (dk_at dksX0_near_0 1 rfl rfl)
theorem dX0_near_2 : decode cX0_near 2 = .ok (.bipush 99, 2) := dk_16 99 (dk_at dksX0_near_0 2 rfl rfl)
theorem dX0_near_4 : decode cX0_near 4 = .ok (.invokestatic 82, 3) := dk_184 0 82 (dk_at dksX0_near_0 4 rfl rfl)
theorem dX0_near_7 : decode cX0_near 7 = .ok (.ifCond .ne 5, 3) := dk_154 0 5 (dk_at dksX0_near_0 7 rfl rfl)
theorem dX0_near_10 : decode cX0_near 10 = .ok (.iconst 0, 1) := dk_3 (dk_at dksX0_near_0 10 rfl rfl)
theorem dX0_near_11 : decode cX0_near 11 = .ok (.ireturn, 1) := dk_172 (dk_at dksX0_near_0 11 rfl rfl)
theorem dX0_near_12 : decode cX0_near 12 = .ok (.aload_n 0, 1) := dk_42 (dk_at dksX0_near_0 12 rfl rfl)
theorem dX0_near_13 : decode cX0_near 13 = .ok (.getfield 21, 3) := dk_180 0 21 (dk_at dksX0_near_0 13 rfl rfl)
theorem dX0_near_16 : decode cX0_near 16 = .ok (.getfield 79, 3) := dk_180 0 79 (dk_at dksX0_near_0 16 rfl rfl)
theorem dX0_near_19 : decode cX0_near 19 = .ok (.iconst 1, 1) := dk_4 (dk_at dksX0_near_0 19 rfl rfl)
theorem dX0_near_20 : decode cX0_near 20 = .ok (.iload_n 1, 1) := dk_27 (dk_at dksX0_near_0 20 rfl rfl)
theorem dX0_near_21 : decode cX0_near 21 = .ok (.iastore, 1) := dk_79 (dk_at dksX0_near_0 21 rfl rfl)
theorem dX0_near_22 : decode cX0_near 22 = .ok (.iconst 1, 1) := dk_4 (dk_at dksX0_near_0 22 rfl rfl)
theorem dX0_near_23 : decode cX0_near 23 = .ok (.ireturn, 1) := dk_172 (dk_at dksX0_near_0 23 rfl rfl)
abbrev cX0_feed : ByteArray := prog_1_method_9_code
def yX0_feed : MethodName := ⟨RX0, "feed", "(IIIII)I"⟩
def dkwX0_feed_2 : List UInt8 := [172]
abbrev dktX0_feed_2 : List UInt8 := dkwX0_feed_2 ++ []
def dkwX0_feed_1 : List UInt8 := [182, 0, 96, 42, 29, 182, 0, 96, 42, 21, 4, 182, 0, 96, 42, 21, 5, 182, 0, 96, 42, 180, 0, 93]
abbrev dktX0_feed_1 : List UInt8 := dkwX0_feed_1 ++ dktX0_feed_2
def dkwX0_feed_0 : List UInt8 := [42, 180, 0, 93, 16, 20, 96, 17, 1, 44, 164, 0, 5, 2, 172, 42, 27, 182, 0, 96, 42, 28]
abbrev dktX0_feed_0 : List UInt8 := dkwX0_feed_0 ++ dktX0_feed_1
theorem dksX0_feed_0 : cX0_feed.data.toList.drop 0 = dktX0_feed_0 := by decide +kernel
theorem dksX0_feed_1 : cX0_feed.data.toList.drop 22 = dktX0_feed_1 := dk_seg dksX0_feed_0 22 rfl rfl
theorem dksX0_feed_2 : cX0_feed.data.toList.drop 46 = dktX0_feed_2 := dk_seg dksX0_feed_1 24 rfl rfl
theorem dX0_feed_0 : decode cX0_feed 0 = .ok (.aload_n 0, 1) := dk_42 (dk_at dksX0_feed_0 0 rfl rfl)
theorem dX0_feed_1 : decode cX0_feed 1 = .ok (.getfield 93, 3) := dk_180 0 93 (dk_at dksX0_feed_0 1 rfl rfl)
theorem dX0_feed_4 : decode cX0_feed 4 = .ok (.bipush 20, 2) := dk_16 20 (dk_at dksX0_feed_0 4 rfl rfl)
theorem dX0_feed_6 : decode cX0_feed 6 = .ok (.iadd, 1) := dk_96 (dk_at dksX0_feed_0 6 rfl rfl)
theorem dX0_feed_7 : decode cX0_feed 7 = .ok (.sipush 300, 3) := dk_17 1 44 (dk_at dksX0_feed_0 7 rfl rfl)
theorem dX0_feed_10 : decode cX0_feed 10 = .ok (.if_icmp .le 5, 3) := dk_164 0 5 (dk_at dksX0_feed_0 10 rfl rfl)
theorem dX0_feed_13 : decode cX0_feed 13 = .ok (.iconst (-1), 1) := dk_2 (dk_at dksX0_feed_0 13 rfl rfl)
theorem dX0_feed_14 : decode cX0_feed 14 = .ok (.ireturn, 1) := dk_172 (dk_at dksX0_feed_0 14 rfl rfl)
theorem dX0_feed_15 : decode cX0_feed 15 = .ok (.aload_n 0, 1) := dk_42 (dk_at dksX0_feed_0 15 rfl rfl)
theorem dX0_feed_16 : decode cX0_feed 16 = .ok (.iload_n 1, 1) := dk_27 (dk_at dksX0_feed_0 16 rfl rfl)
theorem dX0_feed_17 : decode cX0_feed 17 = .ok (.invokevirtual 96, 3) := dk_182 0 96 (dk_at dksX0_feed_0 17 rfl rfl)
theorem dX0_feed_20 : decode cX0_feed 20 = .ok (.aload_n 0, 1) := dk_42 (dk_at dksX0_feed_0 20 rfl rfl)
theorem dX0_feed_21 : decode cX0_feed 21 = .ok (.iload_n 2, 1) := dk_28 (dk_at dksX0_feed_0 21 rfl rfl)
theorem dX0_feed_22 : decode cX0_feed 22 = .ok (.invokevirtual 96, 3) := dk_182 0 96 (dk_at dksX0_feed_1 0 rfl rfl)
theorem dX0_feed_25 : decode cX0_feed 25 = .ok (.aload_n 0, 1) := dk_42 (dk_at dksX0_feed_1 3 rfl rfl)
theorem dX0_feed_26 : decode cX0_feed 26 = .ok (.iload_n 3, 1) := dk_29 (dk_at dksX0_feed_1 4 rfl rfl)
theorem dX0_feed_27 : decode cX0_feed 27 = .ok (.invokevirtual 96, 3) := dk_182 0 96 (dk_at dksX0_feed_1 5 rfl rfl)
theorem dX0_feed_30 : decode cX0_feed 30 = .ok (.aload_n 0, 1) := dk_42 (dk_at dksX0_feed_1 8 rfl rfl)
theorem dX0_feed_31 : decode cX0_feed 31 = .ok (.iload 4, 2) := dk_21 4 (dk_at dksX0_feed_1 9 rfl rfl)
theorem dX0_feed_33 : decode cX0_feed 33 = .ok (.invokevirtual 96, 3) := dk_182 0 96 (dk_at dksX0_feed_1 11 rfl rfl)
theorem dX0_feed_36 : decode cX0_feed 36 = .ok (.aload_n 0, 1) := dk_42 (dk_at dksX0_feed_1 14 rfl rfl)
theorem dX0_feed_37 : decode cX0_feed 37 = .ok (.iload 5, 2) := dk_21 5 (dk_at dksX0_feed_1 15 rfl rfl)
theorem dX0_feed_39 : decode cX0_feed 39 = .ok (.invokevirtual 96, 3) := dk_182 0 96 (dk_at dksX0_feed_1 17 rfl rfl)
theorem dX0_feed_42 : decode cX0_feed 42 = .ok (.aload_n 0, 1) := dk_42 (dk_at dksX0_feed_1 20 rfl rfl)
theorem dX0_feed_43 : decode cX0_feed 43 = .ok (.getfield 93, 3) := dk_180 0 93 (dk_at dksX0_feed_1 21 rfl rfl)
theorem dX0_feed_46 : decode cX0_feed 46 = .ok (.ireturn, 1) := dk_172 (dk_at dksX0_feed_2 0 rfl rfl)
abbrev cX0_put : ByteArray := prog_1_method_8_code
def yX0_put : MethodName := ⟨RX0, "put", "(I)V"⟩
def dkwX0_put_1 : List UInt8 := [180, 0, 93, 4, 96, 181, 0, 93, 132, 2, 248, 167, 255, 226, 177]
abbrev dktX0_put_1 : List UInt8 := dkwX0_put_1 ++ []
def dkwX0_put_0 : List UInt8 := [16, 24, 61, 28, 155, 0, 32, 42, 180, 0, 28, 42, 180, 0, 93, 27, 28, 122, 145, 84, 42, 89]
abbrev dktX0_put_0 : List UInt8 := dkwX0_put_0 ++ dktX0_put_1
theorem dksX0_put_0 : cX0_put.data.toList.drop 0 = dktX0_put_0 := by decide +kernel
theorem dksX0_put_1 : cX0_put.data.toList.drop 22 = dktX0_put_1 := dk_seg dksX0_put_0 22 rfl rfl
theorem dX0_put_0 : decode cX0_put 0 = .ok (.bipush 24, 2) := dk_16 24 (dk_at dksX0_put_0 0 rfl rfl)
theorem dX0_put_2 : decode cX0_put 2 = .ok (.istore_n 2, 1) := dk_61 (dk_at dksX0_put_0 2 rfl rfl)
theorem dX0_put_3 : decode cX0_put 3 = .ok (.iload_n 2, 1) := dk_28 (dk_at dksX0_put_0 3 rfl rfl)
theorem dX0_put_4 : decode cX0_put 4 = .ok (.ifCond .lt 32, 3) := dk_155 0 32 (dk_at dksX0_put_0 4 rfl rfl)
theorem dX0_put_7 : decode cX0_put 7 = .ok (.aload_n 0, 1) := dk_42 (dk_at dksX0_put_0 7 rfl rfl)
theorem dX0_put_8 : decode cX0_put 8 = .ok (.getfield 28, 3) := dk_180 0 28 (dk_at dksX0_put_0 8 rfl rfl)
theorem dX0_put_11 : decode cX0_put 11 = .ok (.aload_n 0, 1) := dk_42 (dk_at dksX0_put_0 11 rfl rfl)
theorem dX0_put_12 : decode cX0_put 12 = .ok (.getfield 93, 3) := dk_180 0 93 (dk_at dksX0_put_0 12 rfl rfl)
theorem dX0_put_15 : decode cX0_put 15 = .ok (.iload_n 1, 1) := dk_27 (dk_at dksX0_put_0 15 rfl rfl)
theorem dX0_put_16 : decode cX0_put 16 = .ok (.iload_n 2, 1) := dk_28 (dk_at dksX0_put_0 16 rfl rfl)
theorem dX0_put_17 : decode cX0_put 17 = .ok (.ishr, 1) := dk_122 (dk_at dksX0_put_0 17 rfl rfl)
theorem dX0_put_18 : decode cX0_put 18 = .ok (.i2b, 1) := dk_145 (dk_at dksX0_put_0 18 rfl rfl)
theorem dX0_put_19 : decode cX0_put 19 = .ok (.bastore, 1) := dk_84 (dk_at dksX0_put_0 19 rfl rfl)
theorem dX0_put_20 : decode cX0_put 20 = .ok (.aload_n 0, 1) := dk_42 (dk_at dksX0_put_0 20 rfl rfl)
theorem dX0_put_21 : decode cX0_put 21 = .ok (.dup, 1) := dk_89 (dk_at dksX0_put_0 21 rfl rfl)
theorem dX0_put_22 : decode cX0_put 22 = .ok (.getfield 93, 3) := dk_180 0 93 (dk_at dksX0_put_1 0 rfl rfl)
theorem dX0_put_25 : decode cX0_put 25 = .ok (.iconst 1, 1) := dk_4 (dk_at dksX0_put_1 3 rfl rfl)
theorem dX0_put_26 : decode cX0_put 26 = .ok (.iadd, 1) := dk_96 (dk_at dksX0_put_1 4 rfl rfl)
theorem dX0_put_27 : decode cX0_put 27 = .ok (.putfield 93, 3) := dk_181 0 93 (dk_at dksX0_put_1 5 rfl rfl)
theorem dX0_put_30 : decode cX0_put 30 = .ok (.iinc 2 (-8), 3) := dk_132 2 248 (dk_at dksX0_put_1 8 rfl rfl)
theorem dX0_put_33 : decode cX0_put 33 = .ok (.goto (-30), 3) := dk_167 255 226 (dk_at dksX0_put_1 11 rfl rfl)
theorem dX0_put_36 : decode cX0_put 36 = .ok (.return_, 1) := dk_177 (dk_at dksX0_put_1 14 rfl rfl)
abbrev cX0_end : ByteArray := prog_1_method_10_code
def yX0_end : MethodName := ⟨RX0, "end", "(I)I"⟩
def dkwX0_end_0 : List UInt8 := [27, 3, 42, 180, 0, 93, 184, 0, 82, 154, 0, 5, 2, 172, 42, 27, 181, 0, 93, 27, 172]
abbrev dktX0_end_0 : List UInt8 := dkwX0_end_0 ++ []
theorem dksX0_end_0 : cX0_end.data.toList.drop 0 = dktX0_end_0 := by decide +kernel
theorem dX0_end_0 : decode cX0_end 0 = .ok (.iload_n 1, 1) := dk_27 (dk_at dksX0_end_0 0 rfl rfl)
theorem dX0_end_1 : decode cX0_end 1 = .ok (.iconst 0, 1) := dk_3 (dk_at dksX0_end_0 1 rfl rfl)
theorem dX0_end_2 : decode cX0_end 2 = .ok (.aload_n 0, 1) := dk_42 (dk_at dksX0_end_0 2 rfl rfl)
theorem dX0_end_3 : decode cX0_end 3 = .ok (.getfield 93, 3) := dk_180 0 93 (dk_at dksX0_end_0 3 rfl rfl)
theorem dX0_end_6 : decode cX0_end 6 = .ok (.invokestatic 82, 3) := dk_184 0 82 (dk_at dksX0_end_0 6 rfl rfl)
theorem dX0_end_9 : decode cX0_end 9 = .ok (.ifCond .ne 5, 3) := dk_154 0 5 (dk_at dksX0_end_0 9 rfl rfl)
theorem dX0_end_12 : decode cX0_end 12 = .ok (.iconst (-1), 1) := dk_2 (dk_at dksX0_end_0 12 rfl rfl)
theorem dX0_end_13 : decode cX0_end 13 = .ok (.ireturn, 1) := dk_172 (dk_at dksX0_end_0 13 rfl rfl)
theorem dX0_end_14 : decode cX0_end 14 = .ok (.aload_n 0, 1) := dk_42 (dk_at dksX0_end_0 14 rfl rfl)
theorem dX0_end_15 : decode cX0_end 15 = .ok (.iload_n 1, 1) := dk_27 (dk_at dksX0_end_0 15 rfl rfl)
theorem dX0_end_16 : decode cX0_end 16 = .ok (.putfield 93, 3) := dk_181 0 93 (dk_at dksX0_end_0 16 rfl rfl)
theorem dX0_end_19 : decode cX0_end 19 = .ok (.iload_n 1, 1) := dk_27 (dk_at dksX0_end_0 19 rfl rfl)
theorem dX0_end_20 : decode cX0_end 20 = .ok (.ireturn, 1) := dk_172 (dk_at dksX0_end_0 20 rfl rfl)
abbrev cX0_text : ByteArray := prog_1_method_11_code
def yX0_text : MethodName := ⟨RX0, "text", "()I"⟩
def dkwX0_text_5 : List UInt8 := [79, 42, 180, 0, 21, 180, 0, 79, 5, 46, 4, 100, 172]
abbrev dktX0_text_5 : List UInt8 := dkwX0_text_5 ++ []
def dkwX0_text_4 : List UInt8 := [29, 172, 58, 4, 42, 3, 181, 0, 93, 25, 4, 191, 42, 180, 0, 21, 180, 0, 79, 5, 92, 46, 4, 96]
abbrev dktX0_text_4 : List UInt8 := dkwX0_text_4 ++ dktX0_text_5
def dkwX0_text_3 : List UInt8 := [77, 42, 44, 180, 0, 115, 181, 0, 32, 42, 44, 180, 0, 116, 181, 0, 36, 2, 62, 42, 3, 181, 0, 93]
abbrev dktX0_text_3 : List UInt8 := dkwX0_text_3 ++ dktX0_text_4
def dkwX0_text_2 : List UInt8 := [187, 0, 104, 89, 42, 180, 0, 28, 27, 183, 0, 106, 182, 0, 109, 83, 42, 3, 181, 0, 93, 167, 0, 39]
abbrev dktX0_text_2 : List UInt8 := dkwX0_text_2 ++ dktX0_text_3
def dkwX0_text_1 : List UInt8 := [181, 0, 32, 42, 2, 181, 0, 36, 42, 180, 0, 21, 180, 0, 100, 42, 180, 0, 21, 180, 0, 79, 5, 46]
abbrev dktX0_text_1 : List UInt8 := dkwX0_text_1 ++ dktX0_text_2
def dkwX0_text_0 : List UInt8 := [42, 180, 0, 21, 180, 0, 79, 5, 46, 7, 160, 0, 5, 2, 172, 42, 180, 0, 93, 60, 42, 3]
abbrev dktX0_text_0 : List UInt8 := dkwX0_text_0 ++ dktX0_text_1
theorem dksX0_text_0 : cX0_text.data.toList.drop 0 = dktX0_text_0 := by decide +kernel
theorem dksX0_text_1 : cX0_text.data.toList.drop 22 = dktX0_text_1 := dk_seg dksX0_text_0 22 rfl rfl
theorem dksX0_text_2 : cX0_text.data.toList.drop 46 = dktX0_text_2 := dk_seg dksX0_text_1 24 rfl rfl
theorem dksX0_text_3 : cX0_text.data.toList.drop 70 = dktX0_text_3 := dk_seg dksX0_text_2 24 rfl rfl
theorem dksX0_text_4 : cX0_text.data.toList.drop 94 = dktX0_text_4 := dk_seg dksX0_text_3 24 rfl rfl
theorem dksX0_text_5 : cX0_text.data.toList.drop 118 = dktX0_text_5 := dk_seg dksX0_text_4 24 rfl rfl
theorem dX0_text_0 : decode cX0_text 0 = .ok (.aload_n 0, 1) := dk_42 (dk_at dksX0_text_0 0 rfl rfl)
theorem dX0_text_1 : decode cX0_text 1 = .ok (.getfield 21, 3) := dk_180 0 21 (dk_at dksX0_text_0 1 rfl rfl)
theorem dX0_text_4 : decode cX0_text 4 = .ok (.getfield 79, 3) := dk_180 0 79 (dk_at dksX0_text_0 4 rfl rfl)
theorem dX0_text_7 : decode cX0_text 7 = .ok (.iconst 2, 1) := dk_5 (dk_at dksX0_text_0 7 rfl rfl)
theorem dX0_text_8 : decode cX0_text 8 = .ok (.iaload, 1) := dk_46 (dk_at dksX0_text_0 8 rfl rfl)
theorem dX0_text_9 : decode cX0_text 9 = .ok (.iconst 4, 1) := dk_7 (dk_at dksX0_text_0 9 rfl rfl)
theorem dX0_text_10 : decode cX0_text 10 = .ok (.if_icmp .ne 5, 3) := dk_160 0 5 (dk_at dksX0_text_0 10 rfl rfl)
theorem dX0_text_13 : decode cX0_text 13 = .ok (.iconst (-1), 1) := dk_2 (dk_at dksX0_text_0 13 rfl rfl)
theorem dX0_text_14 : decode cX0_text 14 = .ok (.ireturn, 1) := dk_172 (dk_at dksX0_text_0 14 rfl rfl)
theorem dX0_text_15 : decode cX0_text 15 = .ok (.aload_n 0, 1) := dk_42 (dk_at dksX0_text_0 15 rfl rfl)
theorem dX0_text_16 : decode cX0_text 16 = .ok (.getfield 93, 3) := dk_180 0 93 (dk_at dksX0_text_0 16 rfl rfl)
theorem dX0_text_19 : decode cX0_text 19 = .ok (.istore_n 1, 1) := dk_60 (dk_at dksX0_text_0 19 rfl rfl)
theorem dX0_text_20 : decode cX0_text 20 = .ok (.aload_n 0, 1) := dk_42 (dk_at dksX0_text_0 20 rfl rfl)
theorem dX0_text_21 : decode cX0_text 21 = .ok (.iconst 0, 1) := dk_3 (dk_at dksX0_text_0 21 rfl rfl)
theorem dX0_text_22 : decode cX0_text 22 = .ok (.putfield 32, 3) := dk_181 0 32 (dk_at dksX0_text_1 0 rfl rfl)
theorem dX0_text_25 : decode cX0_text 25 = .ok (.aload_n 0, 1) := dk_42 (dk_at dksX0_text_1 3 rfl rfl)
theorem dX0_text_26 : decode cX0_text 26 = .ok (.iconst (-1), 1) := dk_2 (dk_at dksX0_text_1 4 rfl rfl)
theorem dX0_text_27 : decode cX0_text 27 = .ok (.putfield 36, 3) := dk_181 0 36 (dk_at dksX0_text_1 5 rfl rfl)
theorem dX0_text_30 : decode cX0_text 30 = .ok (.aload_n 0, 1) := dk_42 (dk_at dksX0_text_1 8 rfl rfl)
theorem dX0_text_31 : decode cX0_text 31 = .ok (.getfield 21, 3) := dk_180 0 21 (dk_at dksX0_text_1 9 rfl rfl)
theorem dX0_text_34 : decode cX0_text 34 = .ok (.getfield 100, 3) := dk_180 0 100 (dk_at dksX0_text_1 12 rfl rfl)
theorem dX0_text_37 : decode cX0_text 37 = .ok (.aload_n 0, 1) := dk_42 (dk_at dksX0_text_1 15 rfl rfl)
theorem dX0_text_38 : decode cX0_text 38 = .ok (.getfield 21, 3) := dk_180 0 21 (dk_at dksX0_text_1 16 rfl rfl)
theorem dX0_text_41 : decode cX0_text 41 = .ok (.getfield 79, 3) := dk_180 0 79 (dk_at dksX0_text_1 19 rfl rfl)
theorem dX0_text_44 : decode cX0_text 44 = .ok (.iconst 2, 1) := dk_5 (dk_at dksX0_text_1 22 rfl rfl)
theorem dX0_text_45 : decode cX0_text 45 = .ok (.iaload, 1) := dk_46 (dk_at dksX0_text_1 23 rfl rfl)
theorem dX0_text_46 : decode cX0_text 46 = .ok (.new 104, 3) := dk_187 0 104 (dk_at dksX0_text_2 0 rfl rfl)
theorem dX0_text_49 : decode cX0_text 49 = .ok (.dup, 1) := dk_89 (dk_at dksX0_text_2 3 rfl rfl)
theorem dX0_text_50 : decode cX0_text 50 = .ok (.aload_n 0, 1) := dk_42 (dk_at dksX0_text_2 4 rfl rfl)
theorem dX0_text_51 : decode cX0_text 51 = .ok (.getfield 28, 3) := dk_180 0 28 (dk_at dksX0_text_2 5 rfl rfl)
theorem dX0_text_54 : decode cX0_text 54 = .ok (.iload_n 1, 1) := dk_27 (dk_at dksX0_text_2 8 rfl rfl)
theorem dX0_text_55 : decode cX0_text 55 = .ok (.invokespecial 106, 3) := dk_183 0 106 (dk_at dksX0_text_2 9 rfl rfl)
theorem dX0_text_58 : decode cX0_text 58 = .ok (.invokevirtual 109, 3) := dk_182 0 109 (dk_at dksX0_text_2 12 rfl rfl)
theorem dX0_text_61 : decode cX0_text 61 = .ok (.aastore, 1) := dk_83 (dk_at dksX0_text_2 15 rfl rfl)
theorem dX0_text_62 : decode cX0_text 62 = .ok (.aload_n 0, 1) := dk_42 (dk_at dksX0_text_2 16 rfl rfl)
theorem dX0_text_63 : decode cX0_text 63 = .ok (.iconst 0, 1) := dk_3 (dk_at dksX0_text_2 17 rfl rfl)
theorem dX0_text_64 : decode cX0_text 64 = .ok (.putfield 93, 3) := dk_181 0 93 (dk_at dksX0_text_2 18 rfl rfl)
theorem dX0_text_67 : decode cX0_text 67 = .ok (.goto 39, 3) := dk_167 0 39 (dk_at dksX0_text_2 21 rfl rfl)
theorem dX0_text_70 : decode cX0_text 70 = .ok (.astore_n 2, 1) := dk_77 (dk_at dksX0_text_3 0 rfl rfl)
theorem dX0_text_71 : decode cX0_text 71 = .ok (.aload_n 0, 1) := dk_42 (dk_at dksX0_text_3 1 rfl rfl)
theorem dX0_text_72 : decode cX0_text 72 = .ok (.aload_n 2, 1) := dk_44 (dk_at dksX0_text_3 2 rfl rfl)
theorem dX0_text_73 : decode cX0_text 73 = .ok (.getfield 115, 3) := dk_180 0 115 (dk_at dksX0_text_3 3 rfl rfl)
theorem dX0_text_76 : decode cX0_text 76 = .ok (.putfield 32, 3) := dk_181 0 32 (dk_at dksX0_text_3 6 rfl rfl)
theorem dX0_text_79 : decode cX0_text 79 = .ok (.aload_n 0, 1) := dk_42 (dk_at dksX0_text_3 9 rfl rfl)
theorem dX0_text_80 : decode cX0_text 80 = .ok (.aload_n 2, 1) := dk_44 (dk_at dksX0_text_3 10 rfl rfl)
theorem dX0_text_81 : decode cX0_text 81 = .ok (.getfield 116, 3) := dk_180 0 116 (dk_at dksX0_text_3 11 rfl rfl)
theorem dX0_text_84 : decode cX0_text 84 = .ok (.putfield 36, 3) := dk_181 0 36 (dk_at dksX0_text_3 14 rfl rfl)
theorem dX0_text_87 : decode cX0_text 87 = .ok (.iconst (-1), 1) := dk_2 (dk_at dksX0_text_3 17 rfl rfl)
theorem dX0_text_88 : decode cX0_text 88 = .ok (.istore_n 3, 1) := dk_62 (dk_at dksX0_text_3 18 rfl rfl)
theorem dX0_text_89 : decode cX0_text 89 = .ok (.aload_n 0, 1) := dk_42 (dk_at dksX0_text_3 19 rfl rfl)
theorem dX0_text_90 : decode cX0_text 90 = .ok (.iconst 0, 1) := dk_3 (dk_at dksX0_text_3 20 rfl rfl)
theorem dX0_text_91 : decode cX0_text 91 = .ok (.putfield 93, 3) := dk_181 0 93 (dk_at dksX0_text_3 21 rfl rfl)
theorem dX0_text_94 : decode cX0_text 94 = .ok (.iload_n 3, 1) := dk_29 (dk_at dksX0_text_4 0 rfl rfl)
theorem dX0_text_95 : decode cX0_text 95 = .ok (.ireturn, 1) := dk_172 (dk_at dksX0_text_4 1 rfl rfl)
theorem dX0_text_96 : decode cX0_text 96 = .ok (.astore 4, 2) := dk_58 4 (dk_at dksX0_text_4 2 rfl rfl)
theorem dX0_text_98 : decode cX0_text 98 = .ok (.aload_n 0, 1) := dk_42 (dk_at dksX0_text_4 4 rfl rfl)
theorem dX0_text_99 : decode cX0_text 99 = .ok (.iconst 0, 1) := dk_3 (dk_at dksX0_text_4 5 rfl rfl)
theorem dX0_text_100 : decode cX0_text 100 = .ok (.putfield 93, 3) := dk_181 0 93 (dk_at dksX0_text_4 6 rfl rfl)
theorem dX0_text_103 : decode cX0_text 103 = .ok (.aload 4, 2) := dk_25 4 (dk_at dksX0_text_4 9 rfl rfl)
theorem dX0_text_105 : decode cX0_text 105 = .ok (.athrow, 1) := dk_191 (dk_at dksX0_text_4 11 rfl rfl)
theorem dX0_text_106 : decode cX0_text 106 = .ok (.aload_n 0, 1) := dk_42 (dk_at dksX0_text_4 12 rfl rfl)
theorem dX0_text_107 : decode cX0_text 107 = .ok (.getfield 21, 3) := dk_180 0 21 (dk_at dksX0_text_4 13 rfl rfl)
theorem dX0_text_110 : decode cX0_text 110 = .ok (.getfield 79, 3) := dk_180 0 79 (dk_at dksX0_text_4 16 rfl rfl)
theorem dX0_text_113 : decode cX0_text 113 = .ok (.iconst 2, 1) := dk_5 (dk_at dksX0_text_4 19 rfl rfl)
theorem dX0_text_114 : decode cX0_text 114 = .ok (.dup2, 1) := dk_92 (dk_at dksX0_text_4 20 rfl rfl)
theorem dX0_text_115 : decode cX0_text 115 = .ok (.iaload, 1) := dk_46 (dk_at dksX0_text_4 21 rfl rfl)
theorem dX0_text_116 : decode cX0_text 116 = .ok (.iconst 1, 1) := dk_4 (dk_at dksX0_text_4 22 rfl rfl)
theorem dX0_text_117 : decode cX0_text 117 = .ok (.iadd, 1) := dk_96 (dk_at dksX0_text_4 23 rfl rfl)
theorem dX0_text_118 : decode cX0_text 118 = .ok (.iastore, 1) := dk_79 (dk_at dksX0_text_5 0 rfl rfl)
theorem dX0_text_119 : decode cX0_text 119 = .ok (.aload_n 0, 1) := dk_42 (dk_at dksX0_text_5 1 rfl rfl)
theorem dX0_text_120 : decode cX0_text 120 = .ok (.getfield 21, 3) := dk_180 0 21 (dk_at dksX0_text_5 2 rfl rfl)
theorem dX0_text_123 : decode cX0_text 123 = .ok (.getfield 79, 3) := dk_180 0 79 (dk_at dksX0_text_5 5 rfl rfl)
theorem dX0_text_126 : decode cX0_text 126 = .ok (.iconst 2, 1) := dk_5 (dk_at dksX0_text_5 8 rfl rfl)
theorem dX0_text_127 : decode cX0_text 127 = .ok (.iaload, 1) := dk_46 (dk_at dksX0_text_5 9 rfl rfl)
theorem dX0_text_128 : decode cX0_text 128 = .ok (.iconst 1, 1) := dk_4 (dk_at dksX0_text_5 10 rfl rfl)
theorem dX0_text_129 : decode cX0_text 129 = .ok (.isub, 1) := dk_100 (dk_at dksX0_text_5 11 rfl rfl)
theorem dX0_text_130 : decode cX0_text 130 = .ok (.ireturn, 1) := dk_172 (dk_at dksX0_text_5 12 rfl rfl)
abbrev cX0_fault : ByteArray := prog_1_method_12_code
def yX0_fault : MethodName := ⟨RX0, "fault", "(I)I"⟩
def dkwX0_fault_1 : List UInt8 := [172]
abbrev dktX0_fault_1 : List UInt8 := dkwX0_fault_1 ++ []
def dkwX0_fault_0 : List UInt8 := [27, 154, 0, 10, 42, 180, 0, 32, 167, 0, 16, 27, 4, 160, 0, 10, 42, 180, 0, 36, 167, 0, 4, 2]
abbrev dktX0_fault_0 : List UInt8 := dkwX0_fault_0 ++ dktX0_fault_1
theorem dksX0_fault_0 : cX0_fault.data.toList.drop 0 = dktX0_fault_0 := by decide +kernel
theorem dksX0_fault_1 : cX0_fault.data.toList.drop 24 = dktX0_fault_1 := dk_seg dksX0_fault_0 24 rfl rfl
theorem dX0_fault_0 : decode cX0_fault 0 = .ok (.iload_n 1, 1) := dk_27 (dk_at dksX0_fault_0 0 rfl rfl)
theorem dX0_fault_1 : decode cX0_fault 1 = .ok (.ifCond .ne 10, 3) := dk_154 0 10 (dk_at dksX0_fault_0 1 rfl rfl)
theorem dX0_fault_4 : decode cX0_fault 4 = .ok (.aload_n 0, 1) := dk_42 (dk_at dksX0_fault_0 4 rfl rfl)
theorem dX0_fault_5 : decode cX0_fault 5 = .ok (.getfield 32, 3) := dk_180 0 32 (dk_at dksX0_fault_0 5 rfl rfl)
theorem dX0_fault_8 : decode cX0_fault 8 = .ok (.goto 16, 3) := dk_167 0 16 (dk_at dksX0_fault_0 8 rfl rfl)
theorem dX0_fault_11 : decode cX0_fault 11 = .ok (.iload_n 1, 1) := dk_27 (dk_at dksX0_fault_0 11 rfl rfl)
theorem dX0_fault_12 : decode cX0_fault 12 = .ok (.iconst 1, 1) := dk_4 (dk_at dksX0_fault_0 12 rfl rfl)
theorem dX0_fault_13 : decode cX0_fault 13 = .ok (.if_icmp .ne 10, 3) := dk_160 0 10 (dk_at dksX0_fault_0 13 rfl rfl)
theorem dX0_fault_16 : decode cX0_fault 16 = .ok (.aload_n 0, 1) := dk_42 (dk_at dksX0_fault_0 16 rfl rfl)
theorem dX0_fault_17 : decode cX0_fault 17 = .ok (.getfield 36, 3) := dk_180 0 36 (dk_at dksX0_fault_0 17 rfl rfl)
theorem dX0_fault_20 : decode cX0_fault 20 = .ok (.goto 4, 3) := dk_167 0 4 (dk_at dksX0_fault_0 20 rfl rfl)
theorem dX0_fault_23 : decode cX0_fault 23 = .ok (.iconst (-1), 1) := dk_2 (dk_at dksX0_fault_0 23 rfl rfl)
theorem dX0_fault_24 : decode cX0_fault 24 = .ok (.ireturn, 1) := dk_172 (dk_at dksX0_fault_1 0 rfl rfl)
abbrev cX0_by : ByteArray := prog_1_method_14_code
def yX0_by : MethodName := ⟨RX0, "by", "(I)Z"⟩
def dkwX0_by_1 : List UInt8 := [79, 4, 172]
abbrev dktX0_by_1 : List UInt8 := dkwX0_by_1 ++ []
def dkwX0_by_0 : List UInt8 := [27, 2, 159, 0, 13, 42, 27, 182, 0, 119, 154, 0, 5, 3, 172, 42, 180, 0, 21, 180, 0, 79, 6, 27]
abbrev dktX0_by_0 : List UInt8 := dkwX0_by_0 ++ dktX0_by_1
theorem dksX0_by_0 : cX0_by.data.toList.drop 0 = dktX0_by_0 := by decide +kernel
theorem dksX0_by_1 : cX0_by.data.toList.drop 24 = dktX0_by_1 := dk_seg dksX0_by_0 24 rfl rfl
theorem dX0_by_0 : decode cX0_by 0 = .ok (.iload_n 1, 1) := dk_27 (dk_at dksX0_by_0 0 rfl rfl)
theorem dX0_by_1 : decode cX0_by 1 = .ok (.iconst (-1), 1) := dk_2 (dk_at dksX0_by_0 1 rfl rfl)
theorem dX0_by_2 : decode cX0_by 2 = .ok (.if_icmp .eq 13, 3) := dk_159 0 13 (dk_at dksX0_by_0 2 rfl rfl)
theorem dX0_by_5 : decode cX0_by 5 = .ok (.aload_n 0, 1) := dk_42 (dk_at dksX0_by_0 5 rfl rfl)
theorem dX0_by_6 : decode cX0_by 6 = .ok (.iload_n 1, 1) := dk_27 (dk_at dksX0_by_0 6 rfl rfl)
theorem dX0_by_7 : decode cX0_by 7 = .ok (.invokevirtual 119, 3) := dk_182 0 119 (dk_at dksX0_by_0 7 rfl rfl)
theorem dX0_by_10 : decode cX0_by 10 = .ok (.ifCond .ne 5, 3) := dk_154 0 5 (dk_at dksX0_by_0 10 rfl rfl)
theorem dX0_by_13 : decode cX0_by 13 = .ok (.iconst 0, 1) := dk_3 (dk_at dksX0_by_0 13 rfl rfl)
theorem dX0_by_14 : decode cX0_by 14 = .ok (.ireturn, 1) := dk_172 (dk_at dksX0_by_0 14 rfl rfl)
theorem dX0_by_15 : decode cX0_by 15 = .ok (.aload_n 0, 1) := dk_42 (dk_at dksX0_by_0 15 rfl rfl)
theorem dX0_by_16 : decode cX0_by 16 = .ok (.getfield 21, 3) := dk_180 0 21 (dk_at dksX0_by_0 16 rfl rfl)
theorem dX0_by_19 : decode cX0_by 19 = .ok (.getfield 79, 3) := dk_180 0 79 (dk_at dksX0_by_0 19 rfl rfl)
theorem dX0_by_22 : decode cX0_by 22 = .ok (.iconst 3, 1) := dk_6 (dk_at dksX0_by_0 22 rfl rfl)
theorem dX0_by_23 : decode cX0_by 23 = .ok (.iload_n 1, 1) := dk_27 (dk_at dksX0_by_0 23 rfl rfl)
theorem dX0_by_24 : decode cX0_by 24 = .ok (.iastore, 1) := dk_79 (dk_at dksX0_by_1 0 rfl rfl)
theorem dX0_by_25 : decode cX0_by 25 = .ok (.iconst 1, 1) := dk_4 (dk_at dksX0_by_1 1 rfl rfl)
theorem dX0_by_26 : decode cX0_by 26 = .ok (.ireturn, 1) := dk_172 (dk_at dksX0_by_1 2 rfl rfl)
abbrev cX0_isText : ByteArray := prog_1_method_13_code
def yX0_isText : MethodName := ⟨RX0, "isText", "(I)Z"⟩
def dkwX0_isText_0 : List UInt8 := [27, 3, 42, 180, 0, 21, 180, 0, 79, 5, 46, 4, 100, 184, 0, 82, 172]
abbrev dktX0_isText_0 : List UInt8 := dkwX0_isText_0 ++ []
theorem dksX0_isText_0 : cX0_isText.data.toList.drop 0 = dktX0_isText_0 := by decide +kernel
theorem dX0_isText_0 : decode cX0_isText 0 = .ok (.iload_n 1, 1) := dk_27 (dk_at dksX0_isText_0 0 rfl rfl)
theorem dX0_isText_1 : decode cX0_isText 1 = .ok (.iconst 0, 1) := dk_3 (dk_at dksX0_isText_0 1 rfl rfl)
theorem dX0_isText_2 : decode cX0_isText 2 = .ok (.aload_n 0, 1) := dk_42 (dk_at dksX0_isText_0 2 rfl rfl)
theorem dX0_isText_3 : decode cX0_isText 3 = .ok (.getfield 21, 3) := dk_180 0 21 (dk_at dksX0_isText_0 3 rfl rfl)
theorem dX0_isText_6 : decode cX0_isText 6 = .ok (.getfield 79, 3) := dk_180 0 79 (dk_at dksX0_isText_0 6 rfl rfl)
theorem dX0_isText_9 : decode cX0_isText 9 = .ok (.iconst 2, 1) := dk_5 (dk_at dksX0_isText_0 9 rfl rfl)
theorem dX0_isText_10 : decode cX0_isText 10 = .ok (.iaload, 1) := dk_46 (dk_at dksX0_isText_0 10 rfl rfl)
theorem dX0_isText_11 : decode cX0_isText 11 = .ok (.iconst 1, 1) := dk_4 (dk_at dksX0_isText_0 11 rfl rfl)
theorem dX0_isText_12 : decode cX0_isText 12 = .ok (.isub, 1) := dk_100 (dk_at dksX0_isText_0 12 rfl rfl)
theorem dX0_isText_13 : decode cX0_isText 13 = .ok (.invokestatic 82, 3) := dk_184 0 82 (dk_at dksX0_isText_0 13 rfl rfl)
theorem dX0_isText_16 : decode cX0_isText 16 = .ok (.ireturn, 1) := dk_172 (dk_at dksX0_isText_0 16 rfl rfl)
abbrev cX0_move : ByteArray := prog_1_method_30_code
def yX0_move : MethodName := ⟨RX0, "move", "(I)I"⟩
def dkwX0_move_2 : List UInt8 := [42, 180, 0, 21, 180, 0, 176, 3, 46, 172]
abbrev dktX0_move_2 : List UInt8 := dkwX0_move_2 ++ []
def dkwX0_move_1 : List UInt8 := [160, 0, 5, 2, 172, 42, 180, 0, 21, 182, 0, 200, 42, 42, 180, 0, 21, 180, 0, 176, 27, 182, 0, 203]
abbrev dktX0_move_1 : List UInt8 := dkwX0_move_1 ++ dktX0_move_2
def dkwX0_move_0 : List UInt8 := [27, 2, 4, 184, 0, 82, 153, 0, 19, 42, 180, 0, 21, 180, 0, 176, 16, 8, 46, 17, 39, 15]
abbrev dktX0_move_0 : List UInt8 := dkwX0_move_0 ++ dktX0_move_1
theorem dksX0_move_0 : cX0_move.data.toList.drop 0 = dktX0_move_0 := by decide +kernel
theorem dksX0_move_1 : cX0_move.data.toList.drop 22 = dktX0_move_1 := dk_seg dksX0_move_0 22 rfl rfl
theorem dksX0_move_2 : cX0_move.data.toList.drop 46 = dktX0_move_2 := dk_seg dksX0_move_1 24 rfl rfl
theorem dX0_move_0 : decode cX0_move 0 = .ok (.iload_n 1, 1) := dk_27 (dk_at dksX0_move_0 0 rfl rfl)
theorem dX0_move_1 : decode cX0_move 1 = .ok (.iconst (-1), 1) := dk_2 (dk_at dksX0_move_0 1 rfl rfl)
theorem dX0_move_2 : decode cX0_move 2 = .ok (.iconst 1, 1) := dk_4 (dk_at dksX0_move_0 2 rfl rfl)
theorem dX0_move_3 : decode cX0_move 3 = .ok (.invokestatic 82, 3) := dk_184 0 82 (dk_at dksX0_move_0 3 rfl rfl)
theorem dX0_move_6 : decode cX0_move 6 = .ok (.ifCond .eq 19, 3) := dk_153 0 19 (dk_at dksX0_move_0 6 rfl rfl)
theorem dX0_move_9 : decode cX0_move 9 = .ok (.aload_n 0, 1) := dk_42 (dk_at dksX0_move_0 9 rfl rfl)
theorem dX0_move_10 : decode cX0_move 10 = .ok (.getfield 21, 3) := dk_180 0 21 (dk_at dksX0_move_0 10 rfl rfl)
theorem dX0_move_13 : decode cX0_move 13 = .ok (.getfield 176, 3) := dk_180 0 176 (dk_at dksX0_move_0 13 rfl rfl)
theorem dX0_move_16 : decode cX0_move 16 = .ok (.bipush 8, 2) := dk_16 8 (dk_at dksX0_move_0 16 rfl rfl)
theorem dX0_move_18 : decode cX0_move 18 = .ok (.iaload, 1) := dk_46 (dk_at dksX0_move_0 18 rfl rfl)
theorem dX0_move_19 : decode cX0_move 19 = .ok (.sipush 9999, 3) := dk_17 39 15 (dk_at dksX0_move_0 19 rfl rfl)
theorem dX0_move_22 : decode cX0_move 22 = .ok (.if_icmp .ne 5, 3) := dk_160 0 5 (dk_at dksX0_move_1 0 rfl rfl)
theorem dX0_move_25 : decode cX0_move 25 = .ok (.iconst (-1), 1) := dk_2 (dk_at dksX0_move_1 3 rfl rfl)
theorem dX0_move_26 : decode cX0_move 26 = .ok (.ireturn, 1) := dk_172 (dk_at dksX0_move_1 4 rfl rfl)
theorem dX0_move_27 : decode cX0_move 27 = .ok (.aload_n 0, 1) := dk_42 (dk_at dksX0_move_1 5 rfl rfl)
theorem dX0_move_28 : decode cX0_move 28 = .ok (.getfield 21, 3) := dk_180 0 21 (dk_at dksX0_move_1 6 rfl rfl)
theorem dX0_move_31 : decode cX0_move 31 = .ok (.invokevirtual 200, 3) := dk_182 0 200 (dk_at dksX0_move_1 9 rfl rfl)
theorem dX0_move_34 : decode cX0_move 34 = .ok (.aload_n 0, 1) := dk_42 (dk_at dksX0_move_1 12 rfl rfl)
theorem dX0_move_35 : decode cX0_move 35 = .ok (.aload_n 0, 1) := dk_42 (dk_at dksX0_move_1 13 rfl rfl)
theorem dX0_move_36 : decode cX0_move 36 = .ok (.getfield 21, 3) := dk_180 0 21 (dk_at dksX0_move_1 14 rfl rfl)
theorem dX0_move_39 : decode cX0_move 39 = .ok (.getfield 176, 3) := dk_180 0 176 (dk_at dksX0_move_1 17 rfl rfl)
theorem dX0_move_42 : decode cX0_move 42 = .ok (.iload_n 1, 1) := dk_27 (dk_at dksX0_move_1 20 rfl rfl)
theorem dX0_move_43 : decode cX0_move 43 = .ok (.invokevirtual 203, 3) := dk_182 0 203 (dk_at dksX0_move_1 21 rfl rfl)
theorem dX0_move_46 : decode cX0_move 46 = .ok (.aload_n 0, 1) := dk_42 (dk_at dksX0_move_2 0 rfl rfl)
theorem dX0_move_47 : decode cX0_move 47 = .ok (.getfield 21, 3) := dk_180 0 21 (dk_at dksX0_move_2 1 rfl rfl)
theorem dX0_move_50 : decode cX0_move 50 = .ok (.getfield 176, 3) := dk_180 0 176 (dk_at dksX0_move_2 4 rfl rfl)
theorem dX0_move_53 : decode cX0_move 53 = .ok (.iconst 0, 1) := dk_3 (dk_at dksX0_move_2 7 rfl rfl)
theorem dX0_move_54 : decode cX0_move 54 = .ok (.iaload, 1) := dk_46 (dk_at dksX0_move_2 8 rfl rfl)
theorem dX0_move_55 : decode cX0_move 55 = .ok (.ireturn, 1) := dk_172 (dk_at dksX0_move_2 9 rfl rfl)
abbrev cX0_tenth : ByteArray := prog_1_method_25_code
def yX0_tenth : MethodName := ⟨RX0, "tenth", "([II)V"⟩
def dkwX0_tenth_5 : List UInt8 := [46, 4, 96, 79, 177]
abbrev dktX0_tenth_5 : List UInt8 := dkwX0_tenth_5 ++ []
def dkwX0_tenth_4 : List UInt8 := [4, 3, 79, 42, 43, 182, 0, 184, 42, 180, 0, 187, 154, 0, 8, 42, 43, 182, 0, 191, 43, 16, 8, 92]
abbrev dktX0_tenth_4 : List UInt8 := dkwX0_tenth_4 ++ dktX0_tenth_5
def dkwX0_tenth_3 : List UInt8 := [17, 2, 88, 184, 0, 82, 154, 0, 21, 43, 3, 43, 3, 46, 133, 3, 17, 2, 88, 184, 0, 169, 79, 43]
abbrev dktX0_tenth_3 : List UInt8 := dkwX0_tenth_3 ++ dktX0_tenth_4
def dkwX0_tenth_2 : List UInt8 := [133, 28, 133, 97, 29, 116, 29, 184, 0, 169, 79, 43, 3, 92, 46, 43, 4, 46, 96, 79, 43, 3, 46, 3]
abbrev dktX0_tenth_2 : List UInt8 := dkwX0_tenth_2 ++ dktX0_tenth_3
def dkwX0_tenth_1 : List UInt8 := [42, 180, 0, 39, 3, 43, 21, 4, 8, 184, 0, 137, 43, 21, 4, 8, 96, 28, 79, 43, 4, 43, 4, 46]
abbrev dktX0_tenth_1 : List UInt8 := dkwX0_tenth_1 ++ dktX0_tenth_2
def dkwX0_tenth_0 : List UInt8 := [42, 43, 182, 0, 177, 42, 3, 6, 3, 16, 9, 182, 0, 173, 62, 43, 16, 8, 46, 184, 0, 133, 54, 4]
abbrev dktX0_tenth_0 : List UInt8 := dkwX0_tenth_0 ++ dktX0_tenth_1
theorem dksX0_tenth_0 : cX0_tenth.data.toList.drop 0 = dktX0_tenth_0 := by decide +kernel
theorem dksX0_tenth_1 : cX0_tenth.data.toList.drop 24 = dktX0_tenth_1 := dk_seg dksX0_tenth_0 24 rfl rfl
theorem dksX0_tenth_2 : cX0_tenth.data.toList.drop 48 = dktX0_tenth_2 := dk_seg dksX0_tenth_1 24 rfl rfl
theorem dksX0_tenth_3 : cX0_tenth.data.toList.drop 72 = dktX0_tenth_3 := dk_seg dksX0_tenth_2 24 rfl rfl
theorem dksX0_tenth_4 : cX0_tenth.data.toList.drop 96 = dktX0_tenth_4 := dk_seg dksX0_tenth_3 24 rfl rfl
theorem dksX0_tenth_5 : cX0_tenth.data.toList.drop 120 = dktX0_tenth_5 := dk_seg dksX0_tenth_4 24 rfl rfl
theorem dX0_tenth_0 : decode cX0_tenth 0 = .ok (.aload_n 0, 1) := dk_42 (dk_at dksX0_tenth_0 0 rfl rfl)
theorem dX0_tenth_1 : decode cX0_tenth 1 = .ok (.aload_n 1, 1) := dk_43 (dk_at dksX0_tenth_0 1 rfl rfl)
theorem dX0_tenth_2 : decode cX0_tenth 2 = .ok (.invokevirtual 177, 3) := dk_182 0 177 (dk_at dksX0_tenth_0 2 rfl rfl)
theorem dX0_tenth_5 : decode cX0_tenth 5 = .ok (.aload_n 0, 1) := dk_42 (dk_at dksX0_tenth_0 5 rfl rfl)
theorem dX0_tenth_6 : decode cX0_tenth 6 = .ok (.iconst 0, 1) := dk_3 (dk_at dksX0_tenth_0 6 rfl rfl)
theorem dX0_tenth_7 : decode cX0_tenth 7 = .ok (.iconst 3, 1) := dk_6 (dk_at dksX0_tenth_0 7 rfl rfl)
theorem dX0_tenth_8 : decode cX0_tenth 8 = .ok (.iconst 0, 1) := dk_3 (dk_at dksX0_tenth_0 8 rfl rfl)
theorem dX0_tenth_9 : decode cX0_tenth 9 = .ok (.bipush 9, 2) := dk_16 9 (dk_at dksX0_tenth_0 9 rfl rfl)
theorem dX0_tenth_11 : decode cX0_tenth 11 = .ok (.invokevirtual 173, 3) := dk_182 0 173 (dk_at dksX0_tenth_0 11 rfl rfl)
theorem dX0_tenth_14 : decode cX0_tenth 14 = .ok (.istore_n 3, 1) := dk_62 (dk_at dksX0_tenth_0 14 rfl rfl)
theorem dX0_tenth_15 : decode cX0_tenth 15 = .ok (.aload_n 1, 1) := dk_43 (dk_at dksX0_tenth_0 15 rfl rfl)
theorem dX0_tenth_16 : decode cX0_tenth 16 = .ok (.bipush 8, 2) := dk_16 8 (dk_at dksX0_tenth_0 16 rfl rfl)
theorem dX0_tenth_18 : decode cX0_tenth 18 = .ok (.iaload, 1) := dk_46 (dk_at dksX0_tenth_0 18 rfl rfl)
theorem dX0_tenth_19 : decode cX0_tenth 19 = .ok (.invokestatic 133, 3) := dk_184 0 133 (dk_at dksX0_tenth_0 19 rfl rfl)
theorem dX0_tenth_22 : decode cX0_tenth 22 = .ok (.istore 4, 2) := dk_54 4 (dk_at dksX0_tenth_0 22 rfl rfl)
theorem dX0_tenth_24 : decode cX0_tenth 24 = .ok (.aload_n 0, 1) := dk_42 (dk_at dksX0_tenth_1 0 rfl rfl)
theorem dX0_tenth_25 : decode cX0_tenth 25 = .ok (.getfield 39, 3) := dk_180 0 39 (dk_at dksX0_tenth_1 1 rfl rfl)
theorem dX0_tenth_28 : decode cX0_tenth 28 = .ok (.iconst 0, 1) := dk_3 (dk_at dksX0_tenth_1 4 rfl rfl)
theorem dX0_tenth_29 : decode cX0_tenth 29 = .ok (.aload_n 1, 1) := dk_43 (dk_at dksX0_tenth_1 5 rfl rfl)
theorem dX0_tenth_30 : decode cX0_tenth 30 = .ok (.iload 4, 2) := dk_21 4 (dk_at dksX0_tenth_1 6 rfl rfl)
theorem dX0_tenth_32 : decode cX0_tenth 32 = .ok (.iconst 5, 1) := dk_8 (dk_at dksX0_tenth_1 8 rfl rfl)
theorem dX0_tenth_33 : decode cX0_tenth 33 = .ok (.invokestatic 137, 3) := dk_184 0 137 (dk_at dksX0_tenth_1 9 rfl rfl)
theorem dX0_tenth_36 : decode cX0_tenth 36 = .ok (.aload_n 1, 1) := dk_43 (dk_at dksX0_tenth_1 12 rfl rfl)
theorem dX0_tenth_37 : decode cX0_tenth 37 = .ok (.iload 4, 2) := dk_21 4 (dk_at dksX0_tenth_1 13 rfl rfl)
theorem dX0_tenth_39 : decode cX0_tenth 39 = .ok (.iconst 5, 1) := dk_8 (dk_at dksX0_tenth_1 15 rfl rfl)
theorem dX0_tenth_40 : decode cX0_tenth 40 = .ok (.iadd, 1) := dk_96 (dk_at dksX0_tenth_1 16 rfl rfl)
theorem dX0_tenth_41 : decode cX0_tenth 41 = .ok (.iload_n 2, 1) := dk_28 (dk_at dksX0_tenth_1 17 rfl rfl)
theorem dX0_tenth_42 : decode cX0_tenth 42 = .ok (.iastore, 1) := dk_79 (dk_at dksX0_tenth_1 18 rfl rfl)
theorem dX0_tenth_43 : decode cX0_tenth 43 = .ok (.aload_n 1, 1) := dk_43 (dk_at dksX0_tenth_1 19 rfl rfl)
theorem dX0_tenth_44 : decode cX0_tenth 44 = .ok (.iconst 1, 1) := dk_4 (dk_at dksX0_tenth_1 20 rfl rfl)
theorem dX0_tenth_45 : decode cX0_tenth 45 = .ok (.aload_n 1, 1) := dk_43 (dk_at dksX0_tenth_1 21 rfl rfl)
theorem dX0_tenth_46 : decode cX0_tenth 46 = .ok (.iconst 1, 1) := dk_4 (dk_at dksX0_tenth_1 22 rfl rfl)
theorem dX0_tenth_47 : decode cX0_tenth 47 = .ok (.iaload, 1) := dk_46 (dk_at dksX0_tenth_1 23 rfl rfl)
theorem dX0_tenth_48 : decode cX0_tenth 48 = .ok (.i2l, 1) := dk_133 (dk_at dksX0_tenth_2 0 rfl rfl)
theorem dX0_tenth_49 : decode cX0_tenth 49 = .ok (.iload_n 2, 1) := dk_28 (dk_at dksX0_tenth_2 1 rfl rfl)
theorem dX0_tenth_50 : decode cX0_tenth 50 = .ok (.i2l, 1) := dk_133 (dk_at dksX0_tenth_2 2 rfl rfl)
theorem dX0_tenth_51 : decode cX0_tenth 51 = .ok (.ladd, 1) := dk_97 (dk_at dksX0_tenth_2 3 rfl rfl)
theorem dX0_tenth_52 : decode cX0_tenth 52 = .ok (.iload_n 3, 1) := dk_29 (dk_at dksX0_tenth_2 4 rfl rfl)
theorem dX0_tenth_53 : decode cX0_tenth 53 = .ok (.ineg, 1) := dk_116 (dk_at dksX0_tenth_2 5 rfl rfl)
theorem dX0_tenth_54 : decode cX0_tenth 54 = .ok (.iload_n 3, 1) := dk_29 (dk_at dksX0_tenth_2 6 rfl rfl)
theorem dX0_tenth_55 : decode cX0_tenth 55 = .ok (.invokestatic 169, 3) := dk_184 0 169 (dk_at dksX0_tenth_2 7 rfl rfl)
theorem dX0_tenth_58 : decode cX0_tenth 58 = .ok (.iastore, 1) := dk_79 (dk_at dksX0_tenth_2 10 rfl rfl)
theorem dX0_tenth_59 : decode cX0_tenth 59 = .ok (.aload_n 1, 1) := dk_43 (dk_at dksX0_tenth_2 11 rfl rfl)
theorem dX0_tenth_60 : decode cX0_tenth 60 = .ok (.iconst 0, 1) := dk_3 (dk_at dksX0_tenth_2 12 rfl rfl)
theorem dX0_tenth_61 : decode cX0_tenth 61 = .ok (.dup2, 1) := dk_92 (dk_at dksX0_tenth_2 13 rfl rfl)
theorem dX0_tenth_62 : decode cX0_tenth 62 = .ok (.iaload, 1) := dk_46 (dk_at dksX0_tenth_2 14 rfl rfl)
theorem dX0_tenth_63 : decode cX0_tenth 63 = .ok (.aload_n 1, 1) := dk_43 (dk_at dksX0_tenth_2 15 rfl rfl)
theorem dX0_tenth_64 : decode cX0_tenth 64 = .ok (.iconst 1, 1) := dk_4 (dk_at dksX0_tenth_2 16 rfl rfl)
theorem dX0_tenth_65 : decode cX0_tenth 65 = .ok (.iaload, 1) := dk_46 (dk_at dksX0_tenth_2 17 rfl rfl)
theorem dX0_tenth_66 : decode cX0_tenth 66 = .ok (.iadd, 1) := dk_96 (dk_at dksX0_tenth_2 18 rfl rfl)
theorem dX0_tenth_67 : decode cX0_tenth 67 = .ok (.iastore, 1) := dk_79 (dk_at dksX0_tenth_2 19 rfl rfl)
theorem dX0_tenth_68 : decode cX0_tenth 68 = .ok (.aload_n 1, 1) := dk_43 (dk_at dksX0_tenth_2 20 rfl rfl)
theorem dX0_tenth_69 : decode cX0_tenth 69 = .ok (.iconst 0, 1) := dk_3 (dk_at dksX0_tenth_2 21 rfl rfl)
theorem dX0_tenth_70 : decode cX0_tenth 70 = .ok (.iaload, 1) := dk_46 (dk_at dksX0_tenth_2 22 rfl rfl)
theorem dX0_tenth_71 : decode cX0_tenth 71 = .ok (.iconst 0, 1) := dk_3 (dk_at dksX0_tenth_2 23 rfl rfl)
theorem dX0_tenth_72 : decode cX0_tenth 72 = .ok (.sipush 600, 3) := dk_17 2 88 (dk_at dksX0_tenth_3 0 rfl rfl)
theorem dX0_tenth_75 : decode cX0_tenth 75 = .ok (.invokestatic 82, 3) := dk_184 0 82 (dk_at dksX0_tenth_3 3 rfl rfl)
theorem dX0_tenth_78 : decode cX0_tenth 78 = .ok (.ifCond .ne 21, 3) := dk_154 0 21 (dk_at dksX0_tenth_3 6 rfl rfl)
theorem dX0_tenth_81 : decode cX0_tenth 81 = .ok (.aload_n 1, 1) := dk_43 (dk_at dksX0_tenth_3 9 rfl rfl)
theorem dX0_tenth_82 : decode cX0_tenth 82 = .ok (.iconst 0, 1) := dk_3 (dk_at dksX0_tenth_3 10 rfl rfl)
theorem dX0_tenth_83 : decode cX0_tenth 83 = .ok (.aload_n 1, 1) := dk_43 (dk_at dksX0_tenth_3 11 rfl rfl)
theorem dX0_tenth_84 : decode cX0_tenth 84 = .ok (.iconst 0, 1) := dk_3 (dk_at dksX0_tenth_3 12 rfl rfl)
theorem dX0_tenth_85 : decode cX0_tenth 85 = .ok (.iaload, 1) := dk_46 (dk_at dksX0_tenth_3 13 rfl rfl)
theorem dX0_tenth_86 : decode cX0_tenth 86 = .ok (.i2l, 1) := dk_133 (dk_at dksX0_tenth_3 14 rfl rfl)
theorem dX0_tenth_87 : decode cX0_tenth 87 = .ok (.iconst 0, 1) := dk_3 (dk_at dksX0_tenth_3 15 rfl rfl)
theorem dX0_tenth_88 : decode cX0_tenth 88 = .ok (.sipush 600, 3) := dk_17 2 88 (dk_at dksX0_tenth_3 16 rfl rfl)
theorem dX0_tenth_91 : decode cX0_tenth 91 = .ok (.invokestatic 169, 3) := dk_184 0 169 (dk_at dksX0_tenth_3 19 rfl rfl)
theorem dX0_tenth_94 : decode cX0_tenth 94 = .ok (.iastore, 1) := dk_79 (dk_at dksX0_tenth_3 22 rfl rfl)
theorem dX0_tenth_95 : decode cX0_tenth 95 = .ok (.aload_n 1, 1) := dk_43 (dk_at dksX0_tenth_3 23 rfl rfl)
theorem dX0_tenth_96 : decode cX0_tenth 96 = .ok (.iconst 1, 1) := dk_4 (dk_at dksX0_tenth_4 0 rfl rfl)
theorem dX0_tenth_97 : decode cX0_tenth 97 = .ok (.iconst 0, 1) := dk_3 (dk_at dksX0_tenth_4 1 rfl rfl)
theorem dX0_tenth_98 : decode cX0_tenth 98 = .ok (.iastore, 1) := dk_79 (dk_at dksX0_tenth_4 2 rfl rfl)
theorem dX0_tenth_99 : decode cX0_tenth 99 = .ok (.aload_n 0, 1) := dk_42 (dk_at dksX0_tenth_4 3 rfl rfl)
theorem dX0_tenth_100 : decode cX0_tenth 100 = .ok (.aload_n 1, 1) := dk_43 (dk_at dksX0_tenth_4 4 rfl rfl)
theorem dX0_tenth_101 : decode cX0_tenth 101 = .ok (.invokevirtual 184, 3) := dk_182 0 184 (dk_at dksX0_tenth_4 5 rfl rfl)
theorem dX0_tenth_104 : decode cX0_tenth 104 = .ok (.aload_n 0, 1) := dk_42 (dk_at dksX0_tenth_4 8 rfl rfl)
theorem dX0_tenth_105 : decode cX0_tenth 105 = .ok (.getfield 187, 3) := dk_180 0 187 (dk_at dksX0_tenth_4 9 rfl rfl)
theorem dX0_tenth_108 : decode cX0_tenth 108 = .ok (.ifCond .ne 8, 3) := dk_154 0 8 (dk_at dksX0_tenth_4 12 rfl rfl)
theorem dX0_tenth_111 : decode cX0_tenth 111 = .ok (.aload_n 0, 1) := dk_42 (dk_at dksX0_tenth_4 15 rfl rfl)
theorem dX0_tenth_112 : decode cX0_tenth 112 = .ok (.aload_n 1, 1) := dk_43 (dk_at dksX0_tenth_4 16 rfl rfl)
theorem dX0_tenth_113 : decode cX0_tenth 113 = .ok (.invokevirtual 191, 3) := dk_182 0 191 (dk_at dksX0_tenth_4 17 rfl rfl)
theorem dX0_tenth_116 : decode cX0_tenth 116 = .ok (.aload_n 1, 1) := dk_43 (dk_at dksX0_tenth_4 20 rfl rfl)
theorem dX0_tenth_117 : decode cX0_tenth 117 = .ok (.bipush 8, 2) := dk_16 8 (dk_at dksX0_tenth_4 21 rfl rfl)
theorem dX0_tenth_119 : decode cX0_tenth 119 = .ok (.dup2, 1) := dk_92 (dk_at dksX0_tenth_4 23 rfl rfl)
theorem dX0_tenth_120 : decode cX0_tenth 120 = .ok (.iaload, 1) := dk_46 (dk_at dksX0_tenth_5 0 rfl rfl)
theorem dX0_tenth_121 : decode cX0_tenth 121 = .ok (.iconst 1, 1) := dk_4 (dk_at dksX0_tenth_5 1 rfl rfl)
theorem dX0_tenth_122 : decode cX0_tenth 122 = .ok (.iadd, 1) := dk_96 (dk_at dksX0_tenth_5 2 rfl rfl)
theorem dX0_tenth_123 : decode cX0_tenth 123 = .ok (.iastore, 1) := dk_79 (dk_at dksX0_tenth_5 3 rfl rfl)
theorem dX0_tenth_124 : decode cX0_tenth 124 = .ok (.return_, 1) := dk_177 (dk_at dksX0_tenth_5 4 rfl rfl)
abbrev cX0_names : ByteArray := prog_1_method_19_code
def yX0_names : MethodName := ⟨RX0, "names", "([I)V"⟩
def dkwX0_names_3 : List UInt8 := [8, 46, 79, 42, 43, 43, 16, 8, 46, 43, 184, 0, 146, 182, 0, 150, 177]
abbrev dktX0_names_3 : List UInt8 := dkwX0_names_3 ++ []
def dkwX0_names_2 : List UInt8 := [16, 7, 46, 43, 3, 46, 100, 79, 42, 180, 0, 39, 8, 43, 7, 46, 79, 42, 180, 0, 39, 16, 6, 43]
abbrev dktX0_names_2 : List UInt8 := dkwX0_names_2 ++ dktX0_names_3
def dkwX0_names_1 : List UInt8 := [180, 0, 39, 5, 43, 4, 46, 79, 42, 180, 0, 39, 6, 43, 16, 6, 46, 79, 42, 180, 0, 39, 7, 43]
abbrev dktX0_names_1 : List UInt8 := dkwX0_names_1 ++ dktX0_names_2
def dkwX0_names_0 : List UInt8 := [42, 180, 0, 39, 3, 43, 3, 46, 43, 5, 46, 100, 79, 42, 180, 0, 39, 4, 43, 6, 46, 79, 42]
abbrev dktX0_names_0 : List UInt8 := dkwX0_names_0 ++ dktX0_names_1
theorem dksX0_names_0 : cX0_names.data.toList.drop 0 = dktX0_names_0 := by decide +kernel
theorem dksX0_names_1 : cX0_names.data.toList.drop 23 = dktX0_names_1 := dk_seg dksX0_names_0 23 rfl rfl
theorem dksX0_names_2 : cX0_names.data.toList.drop 47 = dktX0_names_2 := dk_seg dksX0_names_1 24 rfl rfl
theorem dksX0_names_3 : cX0_names.data.toList.drop 71 = dktX0_names_3 := dk_seg dksX0_names_2 24 rfl rfl
theorem dX0_names_0 : decode cX0_names 0 = .ok (.aload_n 0, 1) := dk_42 (dk_at dksX0_names_0 0 rfl rfl)
theorem dX0_names_1 : decode cX0_names 1 = .ok (.getfield 39, 3) := dk_180 0 39 (dk_at dksX0_names_0 1 rfl rfl)
theorem dX0_names_4 : decode cX0_names 4 = .ok (.iconst 0, 1) := dk_3 (dk_at dksX0_names_0 4 rfl rfl)
theorem dX0_names_5 : decode cX0_names 5 = .ok (.aload_n 1, 1) := dk_43 (dk_at dksX0_names_0 5 rfl rfl)
theorem dX0_names_6 : decode cX0_names 6 = .ok (.iconst 0, 1) := dk_3 (dk_at dksX0_names_0 6 rfl rfl)
theorem dX0_names_7 : decode cX0_names 7 = .ok (.iaload, 1) := dk_46 (dk_at dksX0_names_0 7 rfl rfl)
theorem dX0_names_8 : decode cX0_names 8 = .ok (.aload_n 1, 1) := dk_43 (dk_at dksX0_names_0 8 rfl rfl)
theorem dX0_names_9 : decode cX0_names 9 = .ok (.iconst 2, 1) := dk_5 (dk_at dksX0_names_0 9 rfl rfl)
theorem dX0_names_10 : decode cX0_names 10 = .ok (.iaload, 1) := dk_46 (dk_at dksX0_names_0 10 rfl rfl)
theorem dX0_names_11 : decode cX0_names 11 = .ok (.isub, 1) := dk_100 (dk_at dksX0_names_0 11 rfl rfl)
theorem dX0_names_12 : decode cX0_names 12 = .ok (.iastore, 1) := dk_79 (dk_at dksX0_names_0 12 rfl rfl)
theorem dX0_names_13 : decode cX0_names 13 = .ok (.aload_n 0, 1) := dk_42 (dk_at dksX0_names_0 13 rfl rfl)
theorem dX0_names_14 : decode cX0_names 14 = .ok (.getfield 39, 3) := dk_180 0 39 (dk_at dksX0_names_0 14 rfl rfl)
theorem dX0_names_17 : decode cX0_names 17 = .ok (.iconst 1, 1) := dk_4 (dk_at dksX0_names_0 17 rfl rfl)
theorem dX0_names_18 : decode cX0_names 18 = .ok (.aload_n 1, 1) := dk_43 (dk_at dksX0_names_0 18 rfl rfl)
theorem dX0_names_19 : decode cX0_names 19 = .ok (.iconst 3, 1) := dk_6 (dk_at dksX0_names_0 19 rfl rfl)
theorem dX0_names_20 : decode cX0_names 20 = .ok (.iaload, 1) := dk_46 (dk_at dksX0_names_0 20 rfl rfl)
theorem dX0_names_21 : decode cX0_names 21 = .ok (.iastore, 1) := dk_79 (dk_at dksX0_names_0 21 rfl rfl)
theorem dX0_names_22 : decode cX0_names 22 = .ok (.aload_n 0, 1) := dk_42 (dk_at dksX0_names_0 22 rfl rfl)
theorem dX0_names_23 : decode cX0_names 23 = .ok (.getfield 39, 3) := dk_180 0 39 (dk_at dksX0_names_1 0 rfl rfl)
theorem dX0_names_26 : decode cX0_names 26 = .ok (.iconst 2, 1) := dk_5 (dk_at dksX0_names_1 3 rfl rfl)
theorem dX0_names_27 : decode cX0_names 27 = .ok (.aload_n 1, 1) := dk_43 (dk_at dksX0_names_1 4 rfl rfl)
theorem dX0_names_28 : decode cX0_names 28 = .ok (.iconst 1, 1) := dk_4 (dk_at dksX0_names_1 5 rfl rfl)
theorem dX0_names_29 : decode cX0_names 29 = .ok (.iaload, 1) := dk_46 (dk_at dksX0_names_1 6 rfl rfl)
theorem dX0_names_30 : decode cX0_names 30 = .ok (.iastore, 1) := dk_79 (dk_at dksX0_names_1 7 rfl rfl)
theorem dX0_names_31 : decode cX0_names 31 = .ok (.aload_n 0, 1) := dk_42 (dk_at dksX0_names_1 8 rfl rfl)
theorem dX0_names_32 : decode cX0_names 32 = .ok (.getfield 39, 3) := dk_180 0 39 (dk_at dksX0_names_1 9 rfl rfl)
theorem dX0_names_35 : decode cX0_names 35 = .ok (.iconst 3, 1) := dk_6 (dk_at dksX0_names_1 12 rfl rfl)
theorem dX0_names_36 : decode cX0_names 36 = .ok (.aload_n 1, 1) := dk_43 (dk_at dksX0_names_1 13 rfl rfl)
theorem dX0_names_37 : decode cX0_names 37 = .ok (.bipush 6, 2) := dk_16 6 (dk_at dksX0_names_1 14 rfl rfl)
theorem dX0_names_39 : decode cX0_names 39 = .ok (.iaload, 1) := dk_46 (dk_at dksX0_names_1 16 rfl rfl)
theorem dX0_names_40 : decode cX0_names 40 = .ok (.iastore, 1) := dk_79 (dk_at dksX0_names_1 17 rfl rfl)
theorem dX0_names_41 : decode cX0_names 41 = .ok (.aload_n 0, 1) := dk_42 (dk_at dksX0_names_1 18 rfl rfl)
theorem dX0_names_42 : decode cX0_names 42 = .ok (.getfield 39, 3) := dk_180 0 39 (dk_at dksX0_names_1 19 rfl rfl)
theorem dX0_names_45 : decode cX0_names 45 = .ok (.iconst 4, 1) := dk_7 (dk_at dksX0_names_1 22 rfl rfl)
theorem dX0_names_46 : decode cX0_names 46 = .ok (.aload_n 1, 1) := dk_43 (dk_at dksX0_names_1 23 rfl rfl)
theorem dX0_names_47 : decode cX0_names 47 = .ok (.bipush 7, 2) := dk_16 7 (dk_at dksX0_names_2 0 rfl rfl)
theorem dX0_names_49 : decode cX0_names 49 = .ok (.iaload, 1) := dk_46 (dk_at dksX0_names_2 2 rfl rfl)
theorem dX0_names_50 : decode cX0_names 50 = .ok (.aload_n 1, 1) := dk_43 (dk_at dksX0_names_2 3 rfl rfl)
theorem dX0_names_51 : decode cX0_names 51 = .ok (.iconst 0, 1) := dk_3 (dk_at dksX0_names_2 4 rfl rfl)
theorem dX0_names_52 : decode cX0_names 52 = .ok (.iaload, 1) := dk_46 (dk_at dksX0_names_2 5 rfl rfl)
theorem dX0_names_53 : decode cX0_names 53 = .ok (.isub, 1) := dk_100 (dk_at dksX0_names_2 6 rfl rfl)
theorem dX0_names_54 : decode cX0_names 54 = .ok (.iastore, 1) := dk_79 (dk_at dksX0_names_2 7 rfl rfl)
theorem dX0_names_55 : decode cX0_names 55 = .ok (.aload_n 0, 1) := dk_42 (dk_at dksX0_names_2 8 rfl rfl)
theorem dX0_names_56 : decode cX0_names 56 = .ok (.getfield 39, 3) := dk_180 0 39 (dk_at dksX0_names_2 9 rfl rfl)
theorem dX0_names_59 : decode cX0_names 59 = .ok (.iconst 5, 1) := dk_8 (dk_at dksX0_names_2 12 rfl rfl)
theorem dX0_names_60 : decode cX0_names 60 = .ok (.aload_n 1, 1) := dk_43 (dk_at dksX0_names_2 13 rfl rfl)
theorem dX0_names_61 : decode cX0_names 61 = .ok (.iconst 4, 1) := dk_7 (dk_at dksX0_names_2 14 rfl rfl)
theorem dX0_names_62 : decode cX0_names 62 = .ok (.iaload, 1) := dk_46 (dk_at dksX0_names_2 15 rfl rfl)
theorem dX0_names_63 : decode cX0_names 63 = .ok (.iastore, 1) := dk_79 (dk_at dksX0_names_2 16 rfl rfl)
theorem dX0_names_64 : decode cX0_names 64 = .ok (.aload_n 0, 1) := dk_42 (dk_at dksX0_names_2 17 rfl rfl)
theorem dX0_names_65 : decode cX0_names 65 = .ok (.getfield 39, 3) := dk_180 0 39 (dk_at dksX0_names_2 18 rfl rfl)
theorem dX0_names_68 : decode cX0_names 68 = .ok (.bipush 6, 2) := dk_16 6 (dk_at dksX0_names_2 21 rfl rfl)
theorem dX0_names_70 : decode cX0_names 70 = .ok (.aload_n 1, 1) := dk_43 (dk_at dksX0_names_2 23 rfl rfl)
theorem dX0_names_71 : decode cX0_names 71 = .ok (.iconst 5, 1) := dk_8 (dk_at dksX0_names_3 0 rfl rfl)
theorem dX0_names_72 : decode cX0_names 72 = .ok (.iaload, 1) := dk_46 (dk_at dksX0_names_3 1 rfl rfl)
theorem dX0_names_73 : decode cX0_names 73 = .ok (.iastore, 1) := dk_79 (dk_at dksX0_names_3 2 rfl rfl)
theorem dX0_names_74 : decode cX0_names 74 = .ok (.aload_n 0, 1) := dk_42 (dk_at dksX0_names_3 3 rfl rfl)
theorem dX0_names_75 : decode cX0_names 75 = .ok (.aload_n 1, 1) := dk_43 (dk_at dksX0_names_3 4 rfl rfl)
theorem dX0_names_76 : decode cX0_names 76 = .ok (.aload_n 1, 1) := dk_43 (dk_at dksX0_names_3 5 rfl rfl)
theorem dX0_names_77 : decode cX0_names 77 = .ok (.bipush 8, 2) := dk_16 8 (dk_at dksX0_names_3 6 rfl rfl)
theorem dX0_names_79 : decode cX0_names 79 = .ok (.iaload, 1) := dk_46 (dk_at dksX0_names_3 8 rfl rfl)
theorem dX0_names_80 : decode cX0_names 80 = .ok (.aload_n 1, 1) := dk_43 (dk_at dksX0_names_3 9 rfl rfl)
theorem dX0_names_81 : decode cX0_names 81 = .ok (.invokestatic 146, 3) := dk_184 0 146 (dk_at dksX0_names_3 10 rfl rfl)
theorem dX0_names_84 : decode cX0_names 84 = .ok (.invokevirtual 150, 3) := dk_182 0 150 (dk_at dksX0_names_3 13 rfl rfl)
theorem dX0_names_87 : decode cX0_names 87 = .ok (.return_, 1) := dk_177 (dk_at dksX0_names_3 16 rfl rfl)
abbrev cX0_firstKept : ByteArray := prog_1_method_18_code
def yX0_firstKept : MethodName := ⟨RX0, "firstKept", "([I)I"⟩
def dkwX0_firstKept_0 : List UInt8 := [3, 42, 16, 8, 46, 16, 60, 100, 184, 0, 143, 172]
abbrev dktX0_firstKept_0 : List UInt8 := dkwX0_firstKept_0 ++ []
theorem dksX0_firstKept_0 : cX0_firstKept.data.toList.drop 0 = dktX0_firstKept_0 := by decide +kernel
theorem dX0_firstKept_0 : decode cX0_firstKept 0 = .ok (.iconst 0, 1) := dk_3 (dk_at dksX0_firstKept_0 0 rfl rfl)
theorem dX0_firstKept_1 : decode cX0_firstKept 1 = .ok (.aload_n 0, 1) := dk_42 (dk_at dksX0_firstKept_0 1 rfl rfl)
theorem dX0_firstKept_2 : decode cX0_firstKept 2 = .ok (.bipush 8, 2) := dk_16 8 (dk_at dksX0_firstKept_0 2 rfl rfl)
theorem dX0_firstKept_4 : decode cX0_firstKept 4 = .ok (.iaload, 1) := dk_46 (dk_at dksX0_firstKept_0 4 rfl rfl)
theorem dX0_firstKept_5 : decode cX0_firstKept 5 = .ok (.bipush 60, 2) := dk_16 60 (dk_at dksX0_firstKept_0 5 rfl rfl)
theorem dX0_firstKept_7 : decode cX0_firstKept 7 = .ok (.isub, 1) := dk_100 (dk_at dksX0_firstKept_0 7 rfl rfl)
theorem dX0_firstKept_8 : decode cX0_firstKept 8 = .ok (.invokestatic 143, 3) := dk_184 0 143 (dk_at dksX0_firstKept_0 8 rfl rfl)
theorem dX0_firstKept_11 : decode cX0_firstKept 11 = .ok (.ireturn, 1) := dk_172 (dk_at dksX0_firstKept_0 11 rfl rfl)
abbrev cX0_namesAgo : ByteArray := prog_1_method_17_code
def yX0_namesAgo : MethodName := ⟨RX0, "namesAgo", "([III)V"⟩
def dkwX0_namesAgo_2 : List UInt8 := [21, 4, 100, 184, 0, 133, 42, 180, 0, 39, 21, 5, 8, 184, 0, 137, 132, 4, 1, 167, 255, 192, 177]
abbrev dktX0_namesAgo_2 : List UInt8 := dkwX0_namesAgo_2 ++ []
def dkwX0_namesAgo_1 : List UInt8 := [100, 29, 162, 0, 20, 42, 180, 0, 39, 21, 5, 21, 5, 8, 96, 3, 184, 0, 127, 167, 0, 21, 43, 28]
abbrev dktX0_namesAgo_1 : List UInt8 := dkwX0_namesAgo_1 ++ dktX0_namesAgo_2
def dkwX0_namesAgo_0 : List UInt8 := [4, 54, 4, 21, 4, 16, 9, 163, 0, 63, 16, 8, 8, 21, 4, 4, 100, 104, 96, 54, 5, 28, 21, 4]
abbrev dktX0_namesAgo_0 : List UInt8 := dkwX0_namesAgo_0 ++ dktX0_namesAgo_1
theorem dksX0_namesAgo_0 : cX0_namesAgo.data.toList.drop 0 = dktX0_namesAgo_0 := by decide +kernel
theorem dksX0_namesAgo_1 : cX0_namesAgo.data.toList.drop 24 = dktX0_namesAgo_1 := dk_seg dksX0_namesAgo_0 24 rfl rfl
theorem dksX0_namesAgo_2 : cX0_namesAgo.data.toList.drop 48 = dktX0_namesAgo_2 := dk_seg dksX0_namesAgo_1 24 rfl rfl
theorem dX0_namesAgo_0 : decode cX0_namesAgo 0 = .ok (.iconst 1, 1) := dk_4 (dk_at dksX0_namesAgo_0 0 rfl rfl)
theorem dX0_namesAgo_1 : decode cX0_namesAgo 1 = .ok (.istore 4, 2) := dk_54 4 (dk_at dksX0_namesAgo_0 1 rfl rfl)
theorem dX0_namesAgo_3 : decode cX0_namesAgo 3 = .ok (.iload 4, 2) := dk_21 4 (dk_at dksX0_namesAgo_0 3 rfl rfl)
theorem dX0_namesAgo_5 : decode cX0_namesAgo 5 = .ok (.bipush 9, 2) := dk_16 9 (dk_at dksX0_namesAgo_0 5 rfl rfl)
theorem dX0_namesAgo_7 : decode cX0_namesAgo 7 = .ok (.if_icmp .gt 63, 3) := dk_163 0 63 (dk_at dksX0_namesAgo_0 7 rfl rfl)
theorem dX0_namesAgo_10 : decode cX0_namesAgo 10 = .ok (.bipush 8, 2) := dk_16 8 (dk_at dksX0_namesAgo_0 10 rfl rfl)
theorem dX0_namesAgo_12 : decode cX0_namesAgo 12 = .ok (.iconst 5, 1) := dk_8 (dk_at dksX0_namesAgo_0 12 rfl rfl)
theorem dX0_namesAgo_13 : decode cX0_namesAgo 13 = .ok (.iload 4, 2) := dk_21 4 (dk_at dksX0_namesAgo_0 13 rfl rfl)
theorem dX0_namesAgo_15 : decode cX0_namesAgo 15 = .ok (.iconst 1, 1) := dk_4 (dk_at dksX0_namesAgo_0 15 rfl rfl)
theorem dX0_namesAgo_16 : decode cX0_namesAgo 16 = .ok (.isub, 1) := dk_100 (dk_at dksX0_namesAgo_0 16 rfl rfl)
theorem dX0_namesAgo_17 : decode cX0_namesAgo 17 = .ok (.imul, 1) := dk_104 (dk_at dksX0_namesAgo_0 17 rfl rfl)
theorem dX0_namesAgo_18 : decode cX0_namesAgo 18 = .ok (.iadd, 1) := dk_96 (dk_at dksX0_namesAgo_0 18 rfl rfl)
theorem dX0_namesAgo_19 : decode cX0_namesAgo 19 = .ok (.istore 5, 2) := dk_54 5 (dk_at dksX0_namesAgo_0 19 rfl rfl)
theorem dX0_namesAgo_21 : decode cX0_namesAgo 21 = .ok (.iload_n 2, 1) := dk_28 (dk_at dksX0_namesAgo_0 21 rfl rfl)
theorem dX0_namesAgo_22 : decode cX0_namesAgo 22 = .ok (.iload 4, 2) := dk_21 4 (dk_at dksX0_namesAgo_0 22 rfl rfl)
theorem dX0_namesAgo_24 : decode cX0_namesAgo 24 = .ok (.isub, 1) := dk_100 (dk_at dksX0_namesAgo_1 0 rfl rfl)
theorem dX0_namesAgo_25 : decode cX0_namesAgo 25 = .ok (.iload_n 3, 1) := dk_29 (dk_at dksX0_namesAgo_1 1 rfl rfl)
theorem dX0_namesAgo_26 : decode cX0_namesAgo 26 = .ok (.if_icmp .ge 20, 3) := dk_162 0 20 (dk_at dksX0_namesAgo_1 2 rfl rfl)
theorem dX0_namesAgo_29 : decode cX0_namesAgo 29 = .ok (.aload_n 0, 1) := dk_42 (dk_at dksX0_namesAgo_1 5 rfl rfl)
theorem dX0_namesAgo_30 : decode cX0_namesAgo 30 = .ok (.getfield 39, 3) := dk_180 0 39 (dk_at dksX0_namesAgo_1 6 rfl rfl)
theorem dX0_namesAgo_33 : decode cX0_namesAgo 33 = .ok (.iload 5, 2) := dk_21 5 (dk_at dksX0_namesAgo_1 9 rfl rfl)
theorem dX0_namesAgo_35 : decode cX0_namesAgo 35 = .ok (.iload 5, 2) := dk_21 5 (dk_at dksX0_namesAgo_1 11 rfl rfl)
theorem dX0_namesAgo_37 : decode cX0_namesAgo 37 = .ok (.iconst 5, 1) := dk_8 (dk_at dksX0_namesAgo_1 13 rfl rfl)
theorem dX0_namesAgo_38 : decode cX0_namesAgo 38 = .ok (.iadd, 1) := dk_96 (dk_at dksX0_namesAgo_1 14 rfl rfl)
theorem dX0_namesAgo_39 : decode cX0_namesAgo 39 = .ok (.iconst 0, 1) := dk_3 (dk_at dksX0_namesAgo_1 15 rfl rfl)
theorem dX0_namesAgo_40 : decode cX0_namesAgo 40 = .ok (.invokestatic 127, 3) := dk_184 0 127 (dk_at dksX0_namesAgo_1 16 rfl rfl)
theorem dX0_namesAgo_43 : decode cX0_namesAgo 43 = .ok (.goto 21, 3) := dk_167 0 21 (dk_at dksX0_namesAgo_1 19 rfl rfl)
theorem dX0_namesAgo_46 : decode cX0_namesAgo 46 = .ok (.aload_n 1, 1) := dk_43 (dk_at dksX0_namesAgo_1 22 rfl rfl)
theorem dX0_namesAgo_47 : decode cX0_namesAgo 47 = .ok (.iload_n 2, 1) := dk_28 (dk_at dksX0_namesAgo_1 23 rfl rfl)
theorem dX0_namesAgo_48 : decode cX0_namesAgo 48 = .ok (.iload 4, 2) := dk_21 4 (dk_at dksX0_namesAgo_2 0 rfl rfl)
theorem dX0_namesAgo_50 : decode cX0_namesAgo 50 = .ok (.isub, 1) := dk_100 (dk_at dksX0_namesAgo_2 2 rfl rfl)
theorem dX0_namesAgo_51 : decode cX0_namesAgo 51 = .ok (.invokestatic 133, 3) := dk_184 0 133 (dk_at dksX0_namesAgo_2 3 rfl rfl)
theorem dX0_namesAgo_54 : decode cX0_namesAgo 54 = .ok (.aload_n 0, 1) := dk_42 (dk_at dksX0_namesAgo_2 6 rfl rfl)
theorem dX0_namesAgo_55 : decode cX0_namesAgo 55 = .ok (.getfield 39, 3) := dk_180 0 39 (dk_at dksX0_namesAgo_2 7 rfl rfl)
theorem dX0_namesAgo_58 : decode cX0_namesAgo 58 = .ok (.iload 5, 2) := dk_21 5 (dk_at dksX0_namesAgo_2 10 rfl rfl)
theorem dX0_namesAgo_60 : decode cX0_namesAgo 60 = .ok (.iconst 5, 1) := dk_8 (dk_at dksX0_namesAgo_2 12 rfl rfl)
theorem dX0_namesAgo_61 : decode cX0_namesAgo 61 = .ok (.invokestatic 137, 3) := dk_184 0 137 (dk_at dksX0_namesAgo_2 13 rfl rfl)
theorem dX0_namesAgo_64 : decode cX0_namesAgo 64 = .ok (.iinc 4 1, 3) := dk_132 4 1 (dk_at dksX0_namesAgo_2 16 rfl rfl)
theorem dX0_namesAgo_67 : decode cX0_namesAgo 67 = .ok (.goto (-64), 3) := dk_167 255 192 (dk_at dksX0_namesAgo_2 19 rfl rfl)
theorem dX0_namesAgo_70 : decode cX0_namesAgo 70 = .ok (.return_, 1) := dk_177 (dk_at dksX0_namesAgo_2 22 rfl rfl)
abbrev cX0_tenthAt : ByteArray := prog_1_method_16_code
def yX0_tenthAt : MethodName := ⟨RX0, "tenthAt", "(I)I"⟩
def dkwX0_tenthAt_0 : List UInt8 := [16, 53, 16, 6, 26, 16, 60, 112, 104, 96, 172]
abbrev dktX0_tenthAt_0 : List UInt8 := dkwX0_tenthAt_0 ++ []
theorem dksX0_tenthAt_0 : cX0_tenthAt.data.toList.drop 0 = dktX0_tenthAt_0 := by decide +kernel
theorem dX0_tenthAt_0 : decode cX0_tenthAt 0 = .ok (.bipush 53, 2) := dk_16 53 (dk_at dksX0_tenthAt_0 0 rfl rfl)
theorem dX0_tenthAt_2 : decode cX0_tenthAt 2 = .ok (.bipush 6, 2) := dk_16 6 (dk_at dksX0_tenthAt_0 2 rfl rfl)
theorem dX0_tenthAt_4 : decode cX0_tenthAt 4 = .ok (.iload_n 0, 1) := dk_26 (dk_at dksX0_tenthAt_0 4 rfl rfl)
theorem dX0_tenthAt_5 : decode cX0_tenthAt 5 = .ok (.bipush 60, 2) := dk_16 60 (dk_at dksX0_tenthAt_0 5 rfl rfl)
theorem dX0_tenthAt_7 : decode cX0_tenthAt 7 = .ok (.irem, 1) := dk_112 (dk_at dksX0_tenthAt_0 7 rfl rfl)
theorem dX0_tenthAt_8 : decode cX0_tenthAt 8 = .ok (.imul, 1) := dk_104 (dk_at dksX0_tenthAt_0 8 rfl rfl)
theorem dX0_tenthAt_9 : decode cX0_tenthAt 9 = .ok (.iadd, 1) := dk_96 (dk_at dksX0_tenthAt_0 9 rfl rfl)
theorem dX0_tenthAt_10 : decode cX0_tenthAt 10 = .ok (.ireturn, 1) := dk_172 (dk_at dksX0_tenthAt_0 10 rfl rfl)
abbrev cX0_law : ByteArray := prog_1_method_20_code
def yX0_law : MethodName := ⟨RX0, "law", "(IIII)I"⟩
def dkwX0_law_1 : List UInt8 := [180, 0, 39, 185, 0, 163, 2, 0, 29, 21, 4, 184, 0, 169, 172]
abbrev dktX0_law_1 : List UInt8 := dkwX0_law_1 ++ []
def dkwX0_law_0 : List UInt8 := [42, 182, 0, 154, 180, 0, 157, 27, 50, 58, 5, 25, 5, 199, 0, 7, 28, 167, 0, 20, 25, 5, 42]
abbrev dktX0_law_0 : List UInt8 := dkwX0_law_0 ++ dktX0_law_1
theorem dksX0_law_0 : cX0_law.data.toList.drop 0 = dktX0_law_0 := by decide +kernel
theorem dksX0_law_1 : cX0_law.data.toList.drop 23 = dktX0_law_1 := dk_seg dksX0_law_0 23 rfl rfl
theorem dX0_law_0 : decode cX0_law 0 = .ok (.aload_n 0, 1) := dk_42 (dk_at dksX0_law_0 0 rfl rfl)
theorem dX0_law_1 : decode cX0_law 1 = .ok (.invokevirtual 154, 3) := dk_182 0 154 (dk_at dksX0_law_0 1 rfl rfl)
theorem dX0_law_4 : decode cX0_law 4 = .ok (.getfield 157, 3) := dk_180 0 157 (dk_at dksX0_law_0 4 rfl rfl)
theorem dX0_law_7 : decode cX0_law 7 = .ok (.iload_n 1, 1) := dk_27 (dk_at dksX0_law_0 7 rfl rfl)
theorem dX0_law_8 : decode cX0_law 8 = .ok (.aaload, 1) := dk_50 (dk_at dksX0_law_0 8 rfl rfl)
theorem dX0_law_9 : decode cX0_law 9 = .ok (.astore 5, 2) := dk_58 5 (dk_at dksX0_law_0 9 rfl rfl)
theorem dX0_law_11 : decode cX0_law 11 = .ok (.aload 5, 2) := dk_25 5 (dk_at dksX0_law_0 11 rfl rfl)
theorem dX0_law_13 : decode cX0_law 13 = .ok (.ifnonnull 7, 3) := dk_199 0 7 (dk_at dksX0_law_0 13 rfl rfl)
theorem dX0_law_16 : decode cX0_law 16 = .ok (.iload_n 2, 1) := dk_28 (dk_at dksX0_law_0 16 rfl rfl)
theorem dX0_law_17 : decode cX0_law 17 = .ok (.goto 20, 3) := dk_167 0 20 (dk_at dksX0_law_0 17 rfl rfl)
theorem dX0_law_20 : decode cX0_law 20 = .ok (.aload 5, 2) := dk_25 5 (dk_at dksX0_law_0 20 rfl rfl)
theorem dX0_law_22 : decode cX0_law 22 = .ok (.aload_n 0, 1) := dk_42 (dk_at dksX0_law_0 22 rfl rfl)
theorem dX0_law_23 : decode cX0_law 23 = .ok (.getfield 39, 3) := dk_180 0 39 (dk_at dksX0_law_1 0 rfl rfl)
theorem dX0_law_26 : decode cX0_law 26 = .ok (.invokeinterface 163 2, 5) := by decide +kernel
theorem dX0_law_31 : decode cX0_law 31 = .ok (.iload_n 3, 1) := dk_29 (dk_at dksX0_law_1 8 rfl rfl)
theorem dX0_law_32 : decode cX0_law 32 = .ok (.iload 4, 2) := dk_21 4 (dk_at dksX0_law_1 9 rfl rfl)
theorem dX0_law_34 : decode cX0_law 34 = .ok (.invokestatic 169, 3) := dk_184 0 169 (dk_at dksX0_law_1 11 rfl rfl)
theorem dX0_law_37 : decode cX0_law 37 = .ok (.ireturn, 1) := dk_172 (dk_at dksX0_law_1 14 rfl rfl)
abbrev cX0_rules : ByteArray := prog_1_method_15_code
def yX0_rules : MethodName := ⟨RX0, "rules", "()LHookSwings$Text;"⟩
def dkwX0_rules_1 : List UInt8 := [180, 0, 100, 42, 180, 0, 21, 180, 0, 79, 6, 46, 50, 176]
abbrev dktX0_rules_1 : List UInt8 := dkwX0_rules_1 ++ []
def dkwX0_rules_0 : List UInt8 := [42, 180, 0, 21, 180, 0, 79, 6, 46, 2, 160, 0, 9, 178, 0, 123, 167, 0, 20, 42, 180, 0, 21]
abbrev dktX0_rules_0 : List UInt8 := dkwX0_rules_0 ++ dktX0_rules_1
theorem dksX0_rules_0 : cX0_rules.data.toList.drop 0 = dktX0_rules_0 := by decide +kernel
theorem dksX0_rules_1 : cX0_rules.data.toList.drop 23 = dktX0_rules_1 := dk_seg dksX0_rules_0 23 rfl rfl
theorem dX0_rules_0 : decode cX0_rules 0 = .ok (.aload_n 0, 1) := dk_42 (dk_at dksX0_rules_0 0 rfl rfl)
theorem dX0_rules_1 : decode cX0_rules 1 = .ok (.getfield 21, 3) := dk_180 0 21 (dk_at dksX0_rules_0 1 rfl rfl)
theorem dX0_rules_4 : decode cX0_rules 4 = .ok (.getfield 79, 3) := dk_180 0 79 (dk_at dksX0_rules_0 4 rfl rfl)
theorem dX0_rules_7 : decode cX0_rules 7 = .ok (.iconst 3, 1) := dk_6 (dk_at dksX0_rules_0 7 rfl rfl)
theorem dX0_rules_8 : decode cX0_rules 8 = .ok (.iaload, 1) := dk_46 (dk_at dksX0_rules_0 8 rfl rfl)
theorem dX0_rules_9 : decode cX0_rules 9 = .ok (.iconst (-1), 1) := dk_2 (dk_at dksX0_rules_0 9 rfl rfl)
theorem dX0_rules_10 : decode cX0_rules 10 = .ok (.if_icmp .ne 9, 3) := dk_160 0 9 (dk_at dksX0_rules_0 10 rfl rfl)
theorem dX0_rules_13 : decode cX0_rules 13 = .ok (.getstatic 123, 3) := dk_178 0 123 (dk_at dksX0_rules_0 13 rfl rfl)
theorem dX0_rules_16 : decode cX0_rules 16 = .ok (.goto 20, 3) := dk_167 0 20 (dk_at dksX0_rules_0 16 rfl rfl)
theorem dX0_rules_19 : decode cX0_rules 19 = .ok (.aload_n 0, 1) := dk_42 (dk_at dksX0_rules_0 19 rfl rfl)
theorem dX0_rules_20 : decode cX0_rules 20 = .ok (.getfield 21, 3) := dk_180 0 21 (dk_at dksX0_rules_0 20 rfl rfl)
theorem dX0_rules_23 : decode cX0_rules 23 = .ok (.getfield 100, 3) := dk_180 0 100 (dk_at dksX0_rules_1 0 rfl rfl)
theorem dX0_rules_26 : decode cX0_rules 26 = .ok (.aload_n 0, 1) := dk_42 (dk_at dksX0_rules_1 3 rfl rfl)
theorem dX0_rules_27 : decode cX0_rules 27 = .ok (.getfield 21, 3) := dk_180 0 21 (dk_at dksX0_rules_1 4 rfl rfl)
theorem dX0_rules_30 : decode cX0_rules 30 = .ok (.getfield 79, 3) := dk_180 0 79 (dk_at dksX0_rules_1 7 rfl rfl)
theorem dX0_rules_33 : decode cX0_rules 33 = .ok (.iconst 3, 1) := dk_6 (dk_at dksX0_rules_1 10 rfl rfl)
theorem dX0_rules_34 : decode cX0_rules 34 = .ok (.iaload, 1) := dk_46 (dk_at dksX0_rules_1 11 rfl rfl)
theorem dX0_rules_35 : decode cX0_rules 35 = .ok (.aaload, 1) := dk_50 (dk_at dksX0_rules_1 12 rfl rfl)
theorem dX0_rules_36 : decode cX0_rules 36 = .ok (.areturn, 1) := dk_176 (dk_at dksX0_rules_1 13 rfl rfl)
abbrev cX0_held : ByteArray := prog_1_method_3_code
def yX0_held : MethodName := ⟨RX0, "held", "(JII)I"⟩
def dkwX0_held_0 : List UInt8 := [28, 133, 29, 133, 30, 184, 0, 3, 184, 0, 9, 136, 172]
abbrev dktX0_held_0 : List UInt8 := dkwX0_held_0 ++ []
theorem dksX0_held_0 : cX0_held.data.toList.drop 0 = dktX0_held_0 := by decide +kernel
theorem dX0_held_0 : decode cX0_held 0 = .ok (.iload_n 2, 1) := dk_28 (dk_at dksX0_held_0 0 rfl rfl)
theorem dX0_held_1 : decode cX0_held 1 = .ok (.i2l, 1) := dk_133 (dk_at dksX0_held_0 1 rfl rfl)
theorem dX0_held_2 : decode cX0_held 2 = .ok (.iload_n 3, 1) := dk_29 (dk_at dksX0_held_0 2 rfl rfl)
theorem dX0_held_3 : decode cX0_held 3 = .ok (.i2l, 1) := dk_133 (dk_at dksX0_held_0 3 rfl rfl)
theorem dX0_held_4 : decode cX0_held 4 = .ok (.lload_n 0, 1) := dk_30 (dk_at dksX0_held_0 4 rfl rfl)
theorem dX0_held_5 : decode cX0_held 5 = .ok (.invokestatic 3, 3) := dk_184 0 3 (dk_at dksX0_held_0 5 rfl rfl)
theorem dX0_held_8 : decode cX0_held 8 = .ok (.invokestatic 9, 3) := dk_184 0 9 (dk_at dksX0_held_0 8 rfl rfl)
theorem dX0_held_11 : decode cX0_held 11 = .ok (.l2i, 1) := dk_136 (dk_at dksX0_held_0 11 rfl rfl)
theorem dX0_held_12 : decode cX0_held 12 = .ok (.ireturn, 1) := dk_172 (dk_at dksX0_held_0 12 rfl rfl)
abbrev cX0_swings : ByteArray := prog_1_method_26_code
def yX0_swings : MethodName := ⟨RX0, "swings", "([I)V"⟩
def dkwX0_swings_3 : List UInt8 := [79, 177]
abbrev dktX0_swings_3 : List UInt8 := dkwX0_swings_3 ++ []
def dkwX0_swings_2 : List UInt8 := [184, 0, 169, 79, 43, 5, 43, 5, 46, 133, 43, 6, 46, 133, 97, 17, 216, 241, 17, 39, 15, 184, 0, 169]
abbrev dktX0_swings_2 : List UInt8 := dkwX0_swings_2 ++ dktX0_swings_3
def dkwX0_swings_1 : List UInt8 := [184, 0, 169, 16, 157, 16, 99, 182, 0, 173, 61, 43, 6, 43, 6, 46, 133, 28, 133, 97, 16, 157, 16, 99]
abbrev dktX0_swings_1 : List UInt8 := dkwX0_swings_1 ++ dktX0_swings_2
def dkwX0_swings_0 : List UInt8 := [42, 43, 182, 0, 177, 42, 4, 42, 180, 0, 39, 3, 46, 43, 7, 46, 108, 133, 16, 157, 16, 99]
abbrev dktX0_swings_0 : List UInt8 := dkwX0_swings_0 ++ dktX0_swings_1
theorem dksX0_swings_0 : cX0_swings.data.toList.drop 0 = dktX0_swings_0 := by decide +kernel
theorem dksX0_swings_1 : cX0_swings.data.toList.drop 22 = dktX0_swings_1 := dk_seg dksX0_swings_0 22 rfl rfl
theorem dksX0_swings_2 : cX0_swings.data.toList.drop 46 = dktX0_swings_2 := dk_seg dksX0_swings_1 24 rfl rfl
theorem dksX0_swings_3 : cX0_swings.data.toList.drop 70 = dktX0_swings_3 := dk_seg dksX0_swings_2 24 rfl rfl
theorem dX0_swings_0 : decode cX0_swings 0 = .ok (.aload_n 0, 1) := dk_42 (dk_at dksX0_swings_0 0 rfl rfl)
theorem dX0_swings_1 : decode cX0_swings 1 = .ok (.aload_n 1, 1) := dk_43 (dk_at dksX0_swings_0 1 rfl rfl)
theorem dX0_swings_2 : decode cX0_swings 2 = .ok (.invokevirtual 177, 3) := dk_182 0 177 (dk_at dksX0_swings_0 2 rfl rfl)
theorem dX0_swings_5 : decode cX0_swings 5 = .ok (.aload_n 0, 1) := dk_42 (dk_at dksX0_swings_0 5 rfl rfl)
theorem dX0_swings_6 : decode cX0_swings 6 = .ok (.iconst 1, 1) := dk_4 (dk_at dksX0_swings_0 6 rfl rfl)
theorem dX0_swings_7 : decode cX0_swings 7 = .ok (.aload_n 0, 1) := dk_42 (dk_at dksX0_swings_0 7 rfl rfl)
theorem dX0_swings_8 : decode cX0_swings 8 = .ok (.getfield 39, 3) := dk_180 0 39 (dk_at dksX0_swings_0 8 rfl rfl)
theorem dX0_swings_11 : decode cX0_swings 11 = .ok (.iconst 0, 1) := dk_3 (dk_at dksX0_swings_0 11 rfl rfl)
theorem dX0_swings_12 : decode cX0_swings 12 = .ok (.iaload, 1) := dk_46 (dk_at dksX0_swings_0 12 rfl rfl)
theorem dX0_swings_13 : decode cX0_swings 13 = .ok (.aload_n 1, 1) := dk_43 (dk_at dksX0_swings_0 13 rfl rfl)
theorem dX0_swings_14 : decode cX0_swings 14 = .ok (.iconst 4, 1) := dk_7 (dk_at dksX0_swings_0 14 rfl rfl)
theorem dX0_swings_15 : decode cX0_swings 15 = .ok (.iaload, 1) := dk_46 (dk_at dksX0_swings_0 15 rfl rfl)
theorem dX0_swings_16 : decode cX0_swings 16 = .ok (.idiv, 1) := dk_108 (dk_at dksX0_swings_0 16 rfl rfl)
theorem dX0_swings_17 : decode cX0_swings 17 = .ok (.i2l, 1) := dk_133 (dk_at dksX0_swings_0 17 rfl rfl)
theorem dX0_swings_18 : decode cX0_swings 18 = .ok (.bipush (-99), 2) := dk_16 157 (dk_at dksX0_swings_0 18 rfl rfl)
theorem dX0_swings_20 : decode cX0_swings 20 = .ok (.bipush 99, 2) := dk_16 99 (dk_at dksX0_swings_0 20 rfl rfl)
theorem dX0_swings_22 : decode cX0_swings 22 = .ok (.invokestatic 169, 3) := dk_184 0 169 (dk_at dksX0_swings_1 0 rfl rfl)
theorem dX0_swings_25 : decode cX0_swings 25 = .ok (.bipush (-99), 2) := dk_16 157 (dk_at dksX0_swings_1 3 rfl rfl)
theorem dX0_swings_27 : decode cX0_swings 27 = .ok (.bipush 99, 2) := dk_16 99 (dk_at dksX0_swings_1 5 rfl rfl)
theorem dX0_swings_29 : decode cX0_swings 29 = .ok (.invokevirtual 173, 3) := dk_182 0 173 (dk_at dksX0_swings_1 7 rfl rfl)
theorem dX0_swings_32 : decode cX0_swings 32 = .ok (.istore_n 2, 1) := dk_61 (dk_at dksX0_swings_1 10 rfl rfl)
theorem dX0_swings_33 : decode cX0_swings 33 = .ok (.aload_n 1, 1) := dk_43 (dk_at dksX0_swings_1 11 rfl rfl)
theorem dX0_swings_34 : decode cX0_swings 34 = .ok (.iconst 3, 1) := dk_6 (dk_at dksX0_swings_1 12 rfl rfl)
theorem dX0_swings_35 : decode cX0_swings 35 = .ok (.aload_n 1, 1) := dk_43 (dk_at dksX0_swings_1 13 rfl rfl)
theorem dX0_swings_36 : decode cX0_swings 36 = .ok (.iconst 3, 1) := dk_6 (dk_at dksX0_swings_1 14 rfl rfl)
theorem dX0_swings_37 : decode cX0_swings 37 = .ok (.iaload, 1) := dk_46 (dk_at dksX0_swings_1 15 rfl rfl)
theorem dX0_swings_38 : decode cX0_swings 38 = .ok (.i2l, 1) := dk_133 (dk_at dksX0_swings_1 16 rfl rfl)
theorem dX0_swings_39 : decode cX0_swings 39 = .ok (.iload_n 2, 1) := dk_28 (dk_at dksX0_swings_1 17 rfl rfl)
theorem dX0_swings_40 : decode cX0_swings 40 = .ok (.i2l, 1) := dk_133 (dk_at dksX0_swings_1 18 rfl rfl)
theorem dX0_swings_41 : decode cX0_swings 41 = .ok (.ladd, 1) := dk_97 (dk_at dksX0_swings_1 19 rfl rfl)
theorem dX0_swings_42 : decode cX0_swings 42 = .ok (.bipush (-99), 2) := dk_16 157 (dk_at dksX0_swings_1 20 rfl rfl)
theorem dX0_swings_44 : decode cX0_swings 44 = .ok (.bipush 99, 2) := dk_16 99 (dk_at dksX0_swings_1 22 rfl rfl)
theorem dX0_swings_46 : decode cX0_swings 46 = .ok (.invokestatic 169, 3) := dk_184 0 169 (dk_at dksX0_swings_2 0 rfl rfl)
theorem dX0_swings_49 : decode cX0_swings 49 = .ok (.iastore, 1) := dk_79 (dk_at dksX0_swings_2 3 rfl rfl)
theorem dX0_swings_50 : decode cX0_swings 50 = .ok (.aload_n 1, 1) := dk_43 (dk_at dksX0_swings_2 4 rfl rfl)
theorem dX0_swings_51 : decode cX0_swings 51 = .ok (.iconst 2, 1) := dk_5 (dk_at dksX0_swings_2 5 rfl rfl)
theorem dX0_swings_52 : decode cX0_swings 52 = .ok (.aload_n 1, 1) := dk_43 (dk_at dksX0_swings_2 6 rfl rfl)
theorem dX0_swings_53 : decode cX0_swings 53 = .ok (.iconst 2, 1) := dk_5 (dk_at dksX0_swings_2 7 rfl rfl)
theorem dX0_swings_54 : decode cX0_swings 54 = .ok (.iaload, 1) := dk_46 (dk_at dksX0_swings_2 8 rfl rfl)
theorem dX0_swings_55 : decode cX0_swings 55 = .ok (.i2l, 1) := dk_133 (dk_at dksX0_swings_2 9 rfl rfl)
theorem dX0_swings_56 : decode cX0_swings 56 = .ok (.aload_n 1, 1) := dk_43 (dk_at dksX0_swings_2 10 rfl rfl)
theorem dX0_swings_57 : decode cX0_swings 57 = .ok (.iconst 3, 1) := dk_6 (dk_at dksX0_swings_2 11 rfl rfl)
theorem dX0_swings_58 : decode cX0_swings 58 = .ok (.iaload, 1) := dk_46 (dk_at dksX0_swings_2 12 rfl rfl)
theorem dX0_swings_59 : decode cX0_swings 59 = .ok (.i2l, 1) := dk_133 (dk_at dksX0_swings_2 13 rfl rfl)
theorem dX0_swings_60 : decode cX0_swings 60 = .ok (.ladd, 1) := dk_97 (dk_at dksX0_swings_2 14 rfl rfl)
theorem dX0_swings_61 : decode cX0_swings 61 = .ok (.sipush (-9999), 3) := dk_17 216 241 (dk_at dksX0_swings_2 15 rfl rfl)
theorem dX0_swings_64 : decode cX0_swings 64 = .ok (.sipush 9999, 3) := dk_17 39 15 (dk_at dksX0_swings_2 18 rfl rfl)
theorem dX0_swings_67 : decode cX0_swings 67 = .ok (.invokestatic 169, 3) := dk_184 0 169 (dk_at dksX0_swings_2 21 rfl rfl)
theorem dX0_swings_70 : decode cX0_swings 70 = .ok (.iastore, 1) := dk_79 (dk_at dksX0_swings_3 0 rfl rfl)
theorem dX0_swings_71 : decode cX0_swings 71 = .ok (.return_, 1) := dk_177 (dk_at dksX0_swings_3 1 rfl rfl)
abbrev cX0_blows : ByteArray := prog_1_method_27_code
def yX0_blows : MethodName := ⟨RX0, "blows", "([I)V"⟩
def dkwX0_blows_1 : List UInt8 := [184, 0, 194, 167, 0, 17, 43, 16, 6, 3, 43, 16, 6, 46, 4, 100, 184, 0, 143, 79, 177]
abbrev dktX0_blows_1 : List UInt8 := dkwX0_blows_1 ++ []
def dkwX0_blows_0 : List UInt8 := [43, 16, 8, 46, 4, 96, 16, 40, 112, 154, 0, 21, 43, 16, 6, 43, 16, 9, 46, 16, 10, 112, 79, 43]
abbrev dktX0_blows_0 : List UInt8 := dkwX0_blows_0 ++ dktX0_blows_1
theorem dksX0_blows_0 : cX0_blows.data.toList.drop 0 = dktX0_blows_0 := by decide +kernel
theorem dksX0_blows_1 : cX0_blows.data.toList.drop 24 = dktX0_blows_1 := dk_seg dksX0_blows_0 24 rfl rfl
theorem dX0_blows_0 : decode cX0_blows 0 = .ok (.aload_n 1, 1) := dk_43 (dk_at dksX0_blows_0 0 rfl rfl)
theorem dX0_blows_1 : decode cX0_blows 1 = .ok (.bipush 8, 2) := dk_16 8 (dk_at dksX0_blows_0 1 rfl rfl)
theorem dX0_blows_3 : decode cX0_blows 3 = .ok (.iaload, 1) := dk_46 (dk_at dksX0_blows_0 3 rfl rfl)
theorem dX0_blows_4 : decode cX0_blows 4 = .ok (.iconst 1, 1) := dk_4 (dk_at dksX0_blows_0 4 rfl rfl)
theorem dX0_blows_5 : decode cX0_blows 5 = .ok (.iadd, 1) := dk_96 (dk_at dksX0_blows_0 5 rfl rfl)
theorem dX0_blows_6 : decode cX0_blows 6 = .ok (.bipush 40, 2) := dk_16 40 (dk_at dksX0_blows_0 6 rfl rfl)
theorem dX0_blows_8 : decode cX0_blows 8 = .ok (.irem, 1) := dk_112 (dk_at dksX0_blows_0 8 rfl rfl)
theorem dX0_blows_9 : decode cX0_blows 9 = .ok (.ifCond .ne 21, 3) := dk_154 0 21 (dk_at dksX0_blows_0 9 rfl rfl)
theorem dX0_blows_12 : decode cX0_blows 12 = .ok (.aload_n 1, 1) := dk_43 (dk_at dksX0_blows_0 12 rfl rfl)
theorem dX0_blows_13 : decode cX0_blows 13 = .ok (.bipush 6, 2) := dk_16 6 (dk_at dksX0_blows_0 13 rfl rfl)
theorem dX0_blows_15 : decode cX0_blows 15 = .ok (.aload_n 1, 1) := dk_43 (dk_at dksX0_blows_0 15 rfl rfl)
theorem dX0_blows_16 : decode cX0_blows 16 = .ok (.bipush 9, 2) := dk_16 9 (dk_at dksX0_blows_0 16 rfl rfl)
theorem dX0_blows_18 : decode cX0_blows 18 = .ok (.iaload, 1) := dk_46 (dk_at dksX0_blows_0 18 rfl rfl)
theorem dX0_blows_19 : decode cX0_blows 19 = .ok (.bipush 10, 2) := dk_16 10 (dk_at dksX0_blows_0 19 rfl rfl)
theorem dX0_blows_21 : decode cX0_blows 21 = .ok (.irem, 1) := dk_112 (dk_at dksX0_blows_0 21 rfl rfl)
theorem dX0_blows_22 : decode cX0_blows 22 = .ok (.iastore, 1) := dk_79 (dk_at dksX0_blows_0 22 rfl rfl)
theorem dX0_blows_23 : decode cX0_blows 23 = .ok (.aload_n 1, 1) := dk_43 (dk_at dksX0_blows_0 23 rfl rfl)
theorem dX0_blows_24 : decode cX0_blows 24 = .ok (.invokestatic 194, 3) := dk_184 0 194 (dk_at dksX0_blows_1 0 rfl rfl)
theorem dX0_blows_27 : decode cX0_blows 27 = .ok (.goto 17, 3) := dk_167 0 17 (dk_at dksX0_blows_1 3 rfl rfl)
theorem dX0_blows_30 : decode cX0_blows 30 = .ok (.aload_n 1, 1) := dk_43 (dk_at dksX0_blows_1 6 rfl rfl)
theorem dX0_blows_31 : decode cX0_blows 31 = .ok (.bipush 6, 2) := dk_16 6 (dk_at dksX0_blows_1 7 rfl rfl)
theorem dX0_blows_33 : decode cX0_blows 33 = .ok (.iconst 0, 1) := dk_3 (dk_at dksX0_blows_1 9 rfl rfl)
theorem dX0_blows_34 : decode cX0_blows 34 = .ok (.aload_n 1, 1) := dk_43 (dk_at dksX0_blows_1 10 rfl rfl)
theorem dX0_blows_35 : decode cX0_blows 35 = .ok (.bipush 6, 2) := dk_16 6 (dk_at dksX0_blows_1 11 rfl rfl)
theorem dX0_blows_37 : decode cX0_blows 37 = .ok (.iaload, 1) := dk_46 (dk_at dksX0_blows_1 13 rfl rfl)
theorem dX0_blows_38 : decode cX0_blows 38 = .ok (.iconst 1, 1) := dk_4 (dk_at dksX0_blows_1 14 rfl rfl)
theorem dX0_blows_39 : decode cX0_blows 39 = .ok (.isub, 1) := dk_100 (dk_at dksX0_blows_1 15 rfl rfl)
theorem dX0_blows_40 : decode cX0_blows 40 = .ok (.invokestatic 143, 3) := dk_184 0 143 (dk_at dksX0_blows_1 16 rfl rfl)
theorem dX0_blows_43 : decode cX0_blows 43 = .ok (.iastore, 1) := dk_79 (dk_at dksX0_blows_1 19 rfl rfl)
theorem dX0_blows_44 : decode cX0_blows 44 = .ok (.return_, 1) := dk_177 (dk_at dksX0_blows_1 20 rfl rfl)
abbrev cX0_draws : ByteArray := prog_1_method_28_code
def yX0_draws : MethodName := ⟨RX0, "draws", "([I)V"⟩
def dkwX0_draws_0 : List UInt8 := [42, 16, 9, 42, 16, 9, 46, 17, 1, 7, 104, 17, 0, 157, 96, 17, 118, 45, 112, 79, 177]
abbrev dktX0_draws_0 : List UInt8 := dkwX0_draws_0 ++ []
theorem dksX0_draws_0 : cX0_draws.data.toList.drop 0 = dktX0_draws_0 := by decide +kernel
theorem dX0_draws_0 : decode cX0_draws 0 = .ok (.aload_n 0, 1) := dk_42 (dk_at dksX0_draws_0 0 rfl rfl)
theorem dX0_draws_1 : decode cX0_draws 1 = .ok (.bipush 9, 2) := dk_16 9 (dk_at dksX0_draws_0 1 rfl rfl)
theorem dX0_draws_3 : decode cX0_draws 3 = .ok (.aload_n 0, 1) := dk_42 (dk_at dksX0_draws_0 3 rfl rfl)
theorem dX0_draws_4 : decode cX0_draws 4 = .ok (.bipush 9, 2) := dk_16 9 (dk_at dksX0_draws_0 4 rfl rfl)
theorem dX0_draws_6 : decode cX0_draws 6 = .ok (.iaload, 1) := dk_46 (dk_at dksX0_draws_0 6 rfl rfl)
theorem dX0_draws_7 : decode cX0_draws 7 = .ok (.sipush 263, 3) := dk_17 1 7 (dk_at dksX0_draws_0 7 rfl rfl)
theorem dX0_draws_10 : decode cX0_draws 10 = .ok (.imul, 1) := dk_104 (dk_at dksX0_draws_0 10 rfl rfl)
theorem dX0_draws_11 : decode cX0_draws 11 = .ok (.sipush 157, 3) := dk_17 0 157 (dk_at dksX0_draws_0 11 rfl rfl)
theorem dX0_draws_14 : decode cX0_draws 14 = .ok (.iadd, 1) := dk_96 (dk_at dksX0_draws_0 14 rfl rfl)
theorem dX0_draws_15 : decode cX0_draws 15 = .ok (.sipush 30253, 3) := dk_17 118 45 (dk_at dksX0_draws_0 15 rfl rfl)
theorem dX0_draws_18 : decode cX0_draws 18 = .ok (.irem, 1) := dk_112 (dk_at dksX0_draws_0 18 rfl rfl)
theorem dX0_draws_19 : decode cX0_draws 19 = .ok (.iastore, 1) := dk_79 (dk_at dksX0_draws_0 19 rfl rfl)
theorem dX0_draws_20 : decode cX0_draws 20 = .ok (.return_, 1) := dk_177 (dk_at dksX0_draws_0 20 rfl rfl)
abbrev cX0_run : ByteArray := prog_1_method_31_code
def yX0_run : MethodName := ⟨RX0, "run", "(I)I"⟩
def dkwX0_run_3 : List UInt8 := [132, 2, 1, 167, 255, 215, 42, 180, 0, 21, 180, 0, 176, 3, 46, 172]
abbrev dktX0_run_3 : List UInt8 := dkwX0_run_3 ++ []
def dkwX0_run_2 : List UInt8 := [180, 0, 21, 180, 0, 176, 42, 42, 180, 0, 21, 180, 0, 176, 42, 182, 0, 154, 182, 0, 207, 182, 0, 203]
abbrev dktX0_run_2 : List UInt8 := dkwX0_run_2 ++ dktX0_run_3
def dkwX0_run_1 : List UInt8 := [17, 39, 15, 164, 0, 5, 2, 172, 3, 61, 28, 27, 162, 0, 42, 42, 180, 0, 21, 182, 0, 200, 42, 42]
abbrev dktX0_run_1 : List UInt8 := dkwX0_run_1 ++ dktX0_run_2
def dkwX0_run_0 : List UInt8 := [27, 4, 16, 60, 184, 0, 82, 153, 0, 21, 42, 180, 0, 21, 180, 0, 176, 16, 8, 46, 27, 96]
abbrev dktX0_run_0 : List UInt8 := dkwX0_run_0 ++ dktX0_run_1
theorem dksX0_run_0 : cX0_run.data.toList.drop 0 = dktX0_run_0 := by decide +kernel
theorem dksX0_run_1 : cX0_run.data.toList.drop 22 = dktX0_run_1 := dk_seg dksX0_run_0 22 rfl rfl
theorem dksX0_run_2 : cX0_run.data.toList.drop 46 = dktX0_run_2 := dk_seg dksX0_run_1 24 rfl rfl
theorem dksX0_run_3 : cX0_run.data.toList.drop 70 = dktX0_run_3 := dk_seg dksX0_run_2 24 rfl rfl
theorem dX0_run_0 : decode cX0_run 0 = .ok (.iload_n 1, 1) := dk_27 (dk_at dksX0_run_0 0 rfl rfl)
theorem dX0_run_1 : decode cX0_run 1 = .ok (.iconst 1, 1) := dk_4 (dk_at dksX0_run_0 1 rfl rfl)
theorem dX0_run_2 : decode cX0_run 2 = .ok (.bipush 60, 2) := dk_16 60 (dk_at dksX0_run_0 2 rfl rfl)
theorem dX0_run_4 : decode cX0_run 4 = .ok (.invokestatic 82, 3) := dk_184 0 82 (dk_at dksX0_run_0 4 rfl rfl)
theorem dX0_run_7 : decode cX0_run 7 = .ok (.ifCond .eq 21, 3) := dk_153 0 21 (dk_at dksX0_run_0 7 rfl rfl)
theorem dX0_run_10 : decode cX0_run 10 = .ok (.aload_n 0, 1) := dk_42 (dk_at dksX0_run_0 10 rfl rfl)
theorem dX0_run_11 : decode cX0_run 11 = .ok (.getfield 21, 3) := dk_180 0 21 (dk_at dksX0_run_0 11 rfl rfl)
theorem dX0_run_14 : decode cX0_run 14 = .ok (.getfield 176, 3) := dk_180 0 176 (dk_at dksX0_run_0 14 rfl rfl)
theorem dX0_run_17 : decode cX0_run 17 = .ok (.bipush 8, 2) := dk_16 8 (dk_at dksX0_run_0 17 rfl rfl)
theorem dX0_run_19 : decode cX0_run 19 = .ok (.iaload, 1) := dk_46 (dk_at dksX0_run_0 19 rfl rfl)
theorem dX0_run_20 : decode cX0_run 20 = .ok (.iload_n 1, 1) := dk_27 (dk_at dksX0_run_0 20 rfl rfl)
theorem dX0_run_21 : decode cX0_run 21 = .ok (.iadd, 1) := dk_96 (dk_at dksX0_run_0 21 rfl rfl)
theorem dX0_run_22 : decode cX0_run 22 = .ok (.sipush 9999, 3) := dk_17 39 15 (dk_at dksX0_run_1 0 rfl rfl)
theorem dX0_run_25 : decode cX0_run 25 = .ok (.if_icmp .le 5, 3) := dk_164 0 5 (dk_at dksX0_run_1 3 rfl rfl)
theorem dX0_run_28 : decode cX0_run 28 = .ok (.iconst (-1), 1) := dk_2 (dk_at dksX0_run_1 6 rfl rfl)
theorem dX0_run_29 : decode cX0_run 29 = .ok (.ireturn, 1) := dk_172 (dk_at dksX0_run_1 7 rfl rfl)
theorem dX0_run_30 : decode cX0_run 30 = .ok (.iconst 0, 1) := dk_3 (dk_at dksX0_run_1 8 rfl rfl)
theorem dX0_run_31 : decode cX0_run 31 = .ok (.istore_n 2, 1) := dk_61 (dk_at dksX0_run_1 9 rfl rfl)
theorem dX0_run_32 : decode cX0_run 32 = .ok (.iload_n 2, 1) := dk_28 (dk_at dksX0_run_1 10 rfl rfl)
theorem dX0_run_33 : decode cX0_run 33 = .ok (.iload_n 1, 1) := dk_27 (dk_at dksX0_run_1 11 rfl rfl)
theorem dX0_run_34 : decode cX0_run 34 = .ok (.if_icmp .ge 42, 3) := dk_162 0 42 (dk_at dksX0_run_1 12 rfl rfl)
theorem dX0_run_37 : decode cX0_run 37 = .ok (.aload_n 0, 1) := dk_42 (dk_at dksX0_run_1 15 rfl rfl)
theorem dX0_run_38 : decode cX0_run 38 = .ok (.getfield 21, 3) := dk_180 0 21 (dk_at dksX0_run_1 16 rfl rfl)
theorem dX0_run_41 : decode cX0_run 41 = .ok (.invokevirtual 200, 3) := dk_182 0 200 (dk_at dksX0_run_1 19 rfl rfl)
theorem dX0_run_44 : decode cX0_run 44 = .ok (.aload_n 0, 1) := dk_42 (dk_at dksX0_run_1 22 rfl rfl)
theorem dX0_run_45 : decode cX0_run 45 = .ok (.aload_n 0, 1) := dk_42 (dk_at dksX0_run_1 23 rfl rfl)
theorem dX0_run_46 : decode cX0_run 46 = .ok (.getfield 21, 3) := dk_180 0 21 (dk_at dksX0_run_2 0 rfl rfl)
theorem dX0_run_49 : decode cX0_run 49 = .ok (.getfield 176, 3) := dk_180 0 176 (dk_at dksX0_run_2 3 rfl rfl)
theorem dX0_run_52 : decode cX0_run 52 = .ok (.aload_n 0, 1) := dk_42 (dk_at dksX0_run_2 6 rfl rfl)
theorem dX0_run_53 : decode cX0_run 53 = .ok (.aload_n 0, 1) := dk_42 (dk_at dksX0_run_2 7 rfl rfl)
theorem dX0_run_54 : decode cX0_run 54 = .ok (.getfield 21, 3) := dk_180 0 21 (dk_at dksX0_run_2 8 rfl rfl)
theorem dX0_run_57 : decode cX0_run 57 = .ok (.getfield 176, 3) := dk_180 0 176 (dk_at dksX0_run_2 11 rfl rfl)
theorem dX0_run_60 : decode cX0_run 60 = .ok (.aload_n 0, 1) := dk_42 (dk_at dksX0_run_2 14 rfl rfl)
theorem dX0_run_61 : decode cX0_run 61 = .ok (.invokevirtual 154, 3) := dk_182 0 154 (dk_at dksX0_run_2 15 rfl rfl)
theorem dX0_run_64 : decode cX0_run 64 = .ok (.invokevirtual 207, 3) := dk_182 0 207 (dk_at dksX0_run_2 18 rfl rfl)
theorem dX0_run_67 : decode cX0_run 67 = .ok (.invokevirtual 203, 3) := dk_182 0 203 (dk_at dksX0_run_2 21 rfl rfl)
theorem dX0_run_70 : decode cX0_run 70 = .ok (.iinc 2 1, 3) := dk_132 2 1 (dk_at dksX0_run_3 0 rfl rfl)
theorem dX0_run_73 : decode cX0_run 73 = .ok (.goto (-41), 3) := dk_167 255 215 (dk_at dksX0_run_3 3 rfl rfl)
theorem dX0_run_76 : decode cX0_run 76 = .ok (.aload_n 0, 1) := dk_42 (dk_at dksX0_run_3 6 rfl rfl)
theorem dX0_run_77 : decode cX0_run 77 = .ok (.getfield 21, 3) := dk_180 0 21 (dk_at dksX0_run_3 7 rfl rfl)
theorem dX0_run_80 : decode cX0_run 80 = .ok (.getfield 176, 3) := dk_180 0 176 (dk_at dksX0_run_3 10 rfl rfl)
theorem dX0_run_83 : decode cX0_run 83 = .ok (.iconst 0, 1) := dk_3 (dk_at dksX0_run_3 13 rfl rfl)
theorem dX0_run_84 : decode cX0_run 84 = .ok (.iaload, 1) := dk_46 (dk_at dksX0_run_3 14 rfl rfl)
theorem dX0_run_85 : decode cX0_run 85 = .ok (.ireturn, 1) := dk_172 (dk_at dksX0_run_3 15 rfl rfl)
abbrev cX0_handOf : ByteArray := prog_1_method_24_code
def yX0_handOf : MethodName := ⟨RX0, "handOf", "([ILHookSwings$Text;)I"⟩
def dkwX0_handOf_0 : List UInt8 := [42, 43, 182, 0, 177, 42, 44, 182, 0, 180, 172]
abbrev dktX0_handOf_0 : List UInt8 := dkwX0_handOf_0 ++ []
theorem dksX0_handOf_0 : cX0_handOf.data.toList.drop 0 = dktX0_handOf_0 := by decide +kernel
theorem dX0_handOf_0 : decode cX0_handOf 0 = .ok (.aload_n 0, 1) := dk_42 (dk_at dksX0_handOf_0 0 rfl rfl)
theorem dX0_handOf_1 : decode cX0_handOf 1 = .ok (.aload_n 1, 1) := dk_43 (dk_at dksX0_handOf_0 1 rfl rfl)
theorem dX0_handOf_2 : decode cX0_handOf 2 = .ok (.invokevirtual 177, 3) := dk_182 0 177 (dk_at dksX0_handOf_0 2 rfl rfl)
theorem dX0_handOf_5 : decode cX0_handOf 5 = .ok (.aload_n 0, 1) := dk_42 (dk_at dksX0_handOf_0 5 rfl rfl)
theorem dX0_handOf_6 : decode cX0_handOf 6 = .ok (.aload_n 2, 1) := dk_44 (dk_at dksX0_handOf_0 6 rfl rfl)
theorem dX0_handOf_7 : decode cX0_handOf 7 = .ok (.invokevirtual 180, 3) := dk_182 0 180 (dk_at dksX0_handOf_0 7 rfl rfl)
theorem dX0_handOf_10 : decode cX0_handOf 10 = .ok (.ireturn, 1) := dk_172 (dk_at dksX0_handOf_0 10 rfl rfl)
abbrev cX0_commandBy : ByteArray := prog_1_method_23_code
def yX0_commandBy : MethodName := ⟨RX0, "commandBy", "(LHookSwings$Text;)I"⟩
def dkwX0_commandBy_2 : List UInt8 := [156, 0, 7, 2, 167, 0, 4, 3, 172]
abbrev dktX0_commandBy_2 : List UInt8 := dkwX0_commandBy_2 ++ []
def dkwX0_commandBy_1 : List UInt8 := [50, 42, 180, 0, 39, 185, 0, 163, 2, 0, 65, 32, 9, 148, 158, 0, 7, 4, 167, 0, 14, 32, 9, 148]
abbrev dktX0_commandBy_1 : List UInt8 := dkwX0_commandBy_1 ++ dktX0_commandBy_2
def dkwX0_commandBy_0 : List UInt8 := [43, 180, 0, 157, 5, 50, 199, 0, 13, 42, 180, 0, 39, 7, 46, 133, 167, 0, 18, 43, 180, 0, 157, 5]
abbrev dktX0_commandBy_0 : List UInt8 := dkwX0_commandBy_0 ++ dktX0_commandBy_1
theorem dksX0_commandBy_0 : cX0_commandBy.data.toList.drop 0 = dktX0_commandBy_0 := by decide +kernel
theorem dksX0_commandBy_1 : cX0_commandBy.data.toList.drop 24 = dktX0_commandBy_1 := dk_seg dksX0_commandBy_0 24 rfl rfl
theorem dksX0_commandBy_2 : cX0_commandBy.data.toList.drop 48 = dktX0_commandBy_2 := dk_seg dksX0_commandBy_1 24 rfl rfl
theorem dX0_commandBy_0 : decode cX0_commandBy 0 = .ok (.aload_n 1, 1) := dk_43 (dk_at dksX0_commandBy_0 0 rfl rfl)
theorem dX0_commandBy_1 : decode cX0_commandBy 1 = .ok (.getfield 157, 3) := dk_180 0 157 (dk_at dksX0_commandBy_0 1 rfl rfl)
theorem dX0_commandBy_4 : decode cX0_commandBy 4 = .ok (.iconst 2, 1) := dk_5 (dk_at dksX0_commandBy_0 4 rfl rfl)
theorem dX0_commandBy_5 : decode cX0_commandBy 5 = .ok (.aaload, 1) := dk_50 (dk_at dksX0_commandBy_0 5 rfl rfl)
theorem dX0_commandBy_6 : decode cX0_commandBy 6 = .ok (.ifnonnull 13, 3) := dk_199 0 13 (dk_at dksX0_commandBy_0 6 rfl rfl)
theorem dX0_commandBy_9 : decode cX0_commandBy 9 = .ok (.aload_n 0, 1) := dk_42 (dk_at dksX0_commandBy_0 9 rfl rfl)
theorem dX0_commandBy_10 : decode cX0_commandBy 10 = .ok (.getfield 39, 3) := dk_180 0 39 (dk_at dksX0_commandBy_0 10 rfl rfl)
theorem dX0_commandBy_13 : decode cX0_commandBy 13 = .ok (.iconst 4, 1) := dk_7 (dk_at dksX0_commandBy_0 13 rfl rfl)
theorem dX0_commandBy_14 : decode cX0_commandBy 14 = .ok (.iaload, 1) := dk_46 (dk_at dksX0_commandBy_0 14 rfl rfl)
theorem dX0_commandBy_15 : decode cX0_commandBy 15 = .ok (.i2l, 1) := dk_133 (dk_at dksX0_commandBy_0 15 rfl rfl)
theorem dX0_commandBy_16 : decode cX0_commandBy 16 = .ok (.goto 18, 3) := dk_167 0 18 (dk_at dksX0_commandBy_0 16 rfl rfl)
theorem dX0_commandBy_19 : decode cX0_commandBy 19 = .ok (.aload_n 1, 1) := dk_43 (dk_at dksX0_commandBy_0 19 rfl rfl)
theorem dX0_commandBy_20 : decode cX0_commandBy 20 = .ok (.getfield 157, 3) := dk_180 0 157 (dk_at dksX0_commandBy_0 20 rfl rfl)
theorem dX0_commandBy_23 : decode cX0_commandBy 23 = .ok (.iconst 2, 1) := dk_5 (dk_at dksX0_commandBy_0 23 rfl rfl)
theorem dX0_commandBy_24 : decode cX0_commandBy 24 = .ok (.aaload, 1) := dk_50 (dk_at dksX0_commandBy_1 0 rfl rfl)
theorem dX0_commandBy_25 : decode cX0_commandBy 25 = .ok (.aload_n 0, 1) := dk_42 (dk_at dksX0_commandBy_1 1 rfl rfl)
theorem dX0_commandBy_26 : decode cX0_commandBy 26 = .ok (.getfield 39, 3) := dk_180 0 39 (dk_at dksX0_commandBy_1 2 rfl rfl)
theorem dX0_commandBy_29 : decode cX0_commandBy 29 = .ok (.invokeinterface 163 2, 5) := by decide +kernel
theorem dX0_commandBy_34 : decode cX0_commandBy 34 = .ok (.lstore_n 2, 1) := dk_65 (dk_at dksX0_commandBy_1 10 rfl rfl)
theorem dX0_commandBy_35 : decode cX0_commandBy 35 = .ok (.lload_n 2, 1) := dk_32 (dk_at dksX0_commandBy_1 11 rfl rfl)
theorem dX0_commandBy_36 : decode cX0_commandBy 36 = .ok (.lconst 0, 1) := dk_9 (dk_at dksX0_commandBy_1 12 rfl rfl)
theorem dX0_commandBy_37 : decode cX0_commandBy 37 = .ok (.lcmp, 1) := dk_148 (dk_at dksX0_commandBy_1 13 rfl rfl)
theorem dX0_commandBy_38 : decode cX0_commandBy 38 = .ok (.ifCond .le 7, 3) := dk_158 0 7 (dk_at dksX0_commandBy_1 14 rfl rfl)
theorem dX0_commandBy_41 : decode cX0_commandBy 41 = .ok (.iconst 1, 1) := dk_4 (dk_at dksX0_commandBy_1 17 rfl rfl)
theorem dX0_commandBy_42 : decode cX0_commandBy 42 = .ok (.goto 14, 3) := dk_167 0 14 (dk_at dksX0_commandBy_1 18 rfl rfl)
theorem dX0_commandBy_45 : decode cX0_commandBy 45 = .ok (.lload_n 2, 1) := dk_32 (dk_at dksX0_commandBy_1 21 rfl rfl)
theorem dX0_commandBy_46 : decode cX0_commandBy 46 = .ok (.lconst 0, 1) := dk_9 (dk_at dksX0_commandBy_1 22 rfl rfl)
theorem dX0_commandBy_47 : decode cX0_commandBy 47 = .ok (.lcmp, 1) := dk_148 (dk_at dksX0_commandBy_1 23 rfl rfl)
theorem dX0_commandBy_48 : decode cX0_commandBy 48 = .ok (.ifCond .ge 7, 3) := dk_156 0 7 (dk_at dksX0_commandBy_2 0 rfl rfl)
theorem dX0_commandBy_51 : decode cX0_commandBy 51 = .ok (.iconst (-1), 1) := dk_2 (dk_at dksX0_commandBy_2 3 rfl rfl)
theorem dX0_commandBy_52 : decode cX0_commandBy 52 = .ok (.goto 4, 3) := dk_167 0 4 (dk_at dksX0_commandBy_2 4 rfl rfl)
theorem dX0_commandBy_55 : decode cX0_commandBy 55 = .ok (.iconst 0, 1) := dk_3 (dk_at dksX0_commandBy_2 7 rfl rfl)
theorem dX0_commandBy_56 : decode cX0_commandBy 56 = .ok (.ireturn, 1) := dk_172 (dk_at dksX0_commandBy_2 8 rfl rfl)
abbrev cX0_hoist : ByteArray := prog_1_method_33_code
def yX0_hoist : MethodName := ⟨RX0, "hoist", "(I)Z"⟩
def dkwX0_hoist_1 : List UInt8 := [172]
abbrev dktX0_hoist_1 : List UInt8 := dkwX0_hoist_1 ++ []
def dkwX0_hoist_0 : List UInt8 := [27, 4, 16, 24, 184, 0, 82, 153, 0, 16, 42, 7, 27, 182, 0, 211, 153, 0, 7, 4, 167, 0, 4, 3]
abbrev dktX0_hoist_0 : List UInt8 := dkwX0_hoist_0 ++ dktX0_hoist_1
theorem dksX0_hoist_0 : cX0_hoist.data.toList.drop 0 = dktX0_hoist_0 := by decide +kernel
theorem dksX0_hoist_1 : cX0_hoist.data.toList.drop 24 = dktX0_hoist_1 := dk_seg dksX0_hoist_0 24 rfl rfl
theorem dX0_hoist_0 : decode cX0_hoist 0 = .ok (.iload_n 1, 1) := dk_27 (dk_at dksX0_hoist_0 0 rfl rfl)
theorem dX0_hoist_1 : decode cX0_hoist 1 = .ok (.iconst 1, 1) := dk_4 (dk_at dksX0_hoist_0 1 rfl rfl)
theorem dX0_hoist_2 : decode cX0_hoist 2 = .ok (.bipush 24, 2) := dk_16 24 (dk_at dksX0_hoist_0 2 rfl rfl)
theorem dX0_hoist_4 : decode cX0_hoist 4 = .ok (.invokestatic 82, 3) := dk_184 0 82 (dk_at dksX0_hoist_0 4 rfl rfl)
theorem dX0_hoist_7 : decode cX0_hoist 7 = .ok (.ifCond .eq 16, 3) := dk_153 0 16 (dk_at dksX0_hoist_0 7 rfl rfl)
theorem dX0_hoist_10 : decode cX0_hoist 10 = .ok (.aload_n 0, 1) := dk_42 (dk_at dksX0_hoist_0 10 rfl rfl)
theorem dX0_hoist_11 : decode cX0_hoist 11 = .ok (.iconst 4, 1) := dk_7 (dk_at dksX0_hoist_0 11 rfl rfl)
theorem dX0_hoist_12 : decode cX0_hoist 12 = .ok (.iload_n 1, 1) := dk_27 (dk_at dksX0_hoist_0 12 rfl rfl)
theorem dX0_hoist_13 : decode cX0_hoist 13 = .ok (.invokevirtual 211, 3) := dk_182 0 211 (dk_at dksX0_hoist_0 13 rfl rfl)
theorem dX0_hoist_16 : decode cX0_hoist 16 = .ok (.ifCond .eq 7, 3) := dk_153 0 7 (dk_at dksX0_hoist_0 16 rfl rfl)
theorem dX0_hoist_19 : decode cX0_hoist 19 = .ok (.iconst 1, 1) := dk_4 (dk_at dksX0_hoist_0 19 rfl rfl)
theorem dX0_hoist_20 : decode cX0_hoist 20 = .ok (.goto 4, 3) := dk_167 0 4 (dk_at dksX0_hoist_0 20 rfl rfl)
theorem dX0_hoist_23 : decode cX0_hoist 23 = .ok (.iconst 0, 1) := dk_3 (dk_at dksX0_hoist_0 23 rfl rfl)
theorem dX0_hoist_24 : decode cX0_hoist 24 = .ok (.ireturn, 1) := dk_172 (dk_at dksX0_hoist_1 0 rfl rfl)
abbrev cX0_sets : ByteArray := prog_1_method_32_code
def yX0_sets : MethodName := ⟨RX0, "sets", "(II)Z"⟩
def dkwX0_sets_1 : List UInt8 := [180, 0, 21, 180, 0, 176, 27, 28, 79, 4, 172]
abbrev dktX0_sets_1 : List UInt8 := dkwX0_sets_1 ++ []
def dkwX0_sets_0 : List UInt8 := [42, 180, 0, 21, 180, 0, 176, 27, 46, 28, 160, 0, 5, 3, 172, 42, 180, 0, 21, 182, 0, 200, 42]
abbrev dktX0_sets_0 : List UInt8 := dkwX0_sets_0 ++ dktX0_sets_1
theorem dksX0_sets_0 : cX0_sets.data.toList.drop 0 = dktX0_sets_0 := by decide +kernel
theorem dksX0_sets_1 : cX0_sets.data.toList.drop 23 = dktX0_sets_1 := dk_seg dksX0_sets_0 23 rfl rfl
theorem dX0_sets_0 : decode cX0_sets 0 = .ok (.aload_n 0, 1) := dk_42 (dk_at dksX0_sets_0 0 rfl rfl)
theorem dX0_sets_1 : decode cX0_sets 1 = .ok (.getfield 21, 3) := dk_180 0 21 (dk_at dksX0_sets_0 1 rfl rfl)
theorem dX0_sets_4 : decode cX0_sets 4 = .ok (.getfield 176, 3) := dk_180 0 176 (dk_at dksX0_sets_0 4 rfl rfl)
theorem dX0_sets_7 : decode cX0_sets 7 = .ok (.iload_n 1, 1) := dk_27 (dk_at dksX0_sets_0 7 rfl rfl)
theorem dX0_sets_8 : decode cX0_sets 8 = .ok (.iaload, 1) := dk_46 (dk_at dksX0_sets_0 8 rfl rfl)
theorem dX0_sets_9 : decode cX0_sets 9 = .ok (.iload_n 2, 1) := dk_28 (dk_at dksX0_sets_0 9 rfl rfl)
theorem dX0_sets_10 : decode cX0_sets 10 = .ok (.if_icmp .ne 5, 3) := dk_160 0 5 (dk_at dksX0_sets_0 10 rfl rfl)
theorem dX0_sets_13 : decode cX0_sets 13 = .ok (.iconst 0, 1) := dk_3 (dk_at dksX0_sets_0 13 rfl rfl)
theorem dX0_sets_14 : decode cX0_sets 14 = .ok (.ireturn, 1) := dk_172 (dk_at dksX0_sets_0 14 rfl rfl)
theorem dX0_sets_15 : decode cX0_sets 15 = .ok (.aload_n 0, 1) := dk_42 (dk_at dksX0_sets_0 15 rfl rfl)
theorem dX0_sets_16 : decode cX0_sets 16 = .ok (.getfield 21, 3) := dk_180 0 21 (dk_at dksX0_sets_0 16 rfl rfl)
theorem dX0_sets_19 : decode cX0_sets 19 = .ok (.invokevirtual 200, 3) := dk_182 0 200 (dk_at dksX0_sets_0 19 rfl rfl)
theorem dX0_sets_22 : decode cX0_sets 22 = .ok (.aload_n 0, 1) := dk_42 (dk_at dksX0_sets_0 22 rfl rfl)
theorem dX0_sets_23 : decode cX0_sets 23 = .ok (.getfield 21, 3) := dk_180 0 21 (dk_at dksX0_sets_1 0 rfl rfl)
theorem dX0_sets_26 : decode cX0_sets 26 = .ok (.getfield 176, 3) := dk_180 0 176 (dk_at dksX0_sets_1 3 rfl rfl)
theorem dX0_sets_29 : decode cX0_sets 29 = .ok (.iload_n 1, 1) := dk_27 (dk_at dksX0_sets_1 6 rfl rfl)
theorem dX0_sets_30 : decode cX0_sets 30 = .ok (.iload_n 2, 1) := dk_28 (dk_at dksX0_sets_1 7 rfl rfl)
theorem dX0_sets_31 : decode cX0_sets 31 = .ok (.iastore, 1) := dk_79 (dk_at dksX0_sets_1 8 rfl rfl)
theorem dX0_sets_32 : decode cX0_sets 32 = .ok (.iconst 1, 1) := dk_4 (dk_at dksX0_sets_1 9 rfl rfl)
theorem dX0_sets_33 : decode cX0_sets 33 = .ok (.ireturn, 1) := dk_172 (dk_at dksX0_sets_1 10 rfl rfl)
abbrev cX0_aim : ByteArray := prog_1_method_34_code
def yX0_aim : MethodName := ⟨RX0, "aim", "(I)Z"⟩
def dkwX0_aim_1 : List UInt8 := [167, 0, 4, 3, 172]
abbrev dktX0_aim_1 : List UInt8 := dkwX0_aim_1 ++ []
def dkwX0_aim_0 : List UInt8 := [27, 3, 17, 2, 88, 184, 0, 82, 153, 0, 17, 42, 16, 7, 27, 182, 0, 211, 153, 0, 7, 4]
abbrev dktX0_aim_0 : List UInt8 := dkwX0_aim_0 ++ dktX0_aim_1
theorem dksX0_aim_0 : cX0_aim.data.toList.drop 0 = dktX0_aim_0 := by decide +kernel
theorem dksX0_aim_1 : cX0_aim.data.toList.drop 22 = dktX0_aim_1 := dk_seg dksX0_aim_0 22 rfl rfl
theorem dX0_aim_0 : decode cX0_aim 0 = .ok (.iload_n 1, 1) := dk_27 (dk_at dksX0_aim_0 0 rfl rfl)
theorem dX0_aim_1 : decode cX0_aim 1 = .ok (.iconst 0, 1) := dk_3 (dk_at dksX0_aim_0 1 rfl rfl)
theorem dX0_aim_2 : decode cX0_aim 2 = .ok (.sipush 600, 3) := dk_17 2 88 (dk_at dksX0_aim_0 2 rfl rfl)
theorem dX0_aim_5 : decode cX0_aim 5 = .ok (.invokestatic 82, 3) := dk_184 0 82 (dk_at dksX0_aim_0 5 rfl rfl)
theorem dX0_aim_8 : decode cX0_aim 8 = .ok (.ifCond .eq 17, 3) := dk_153 0 17 (dk_at dksX0_aim_0 8 rfl rfl)
theorem dX0_aim_11 : decode cX0_aim 11 = .ok (.aload_n 0, 1) := dk_42 (dk_at dksX0_aim_0 11 rfl rfl)
theorem dX0_aim_12 : decode cX0_aim 12 = .ok (.bipush 7, 2) := dk_16 7 (dk_at dksX0_aim_0 12 rfl rfl)
theorem dX0_aim_14 : decode cX0_aim 14 = .ok (.iload_n 1, 1) := dk_27 (dk_at dksX0_aim_0 14 rfl rfl)
theorem dX0_aim_15 : decode cX0_aim 15 = .ok (.invokevirtual 211, 3) := dk_182 0 211 (dk_at dksX0_aim_0 15 rfl rfl)
theorem dX0_aim_18 : decode cX0_aim 18 = .ok (.ifCond .eq 7, 3) := dk_153 0 7 (dk_at dksX0_aim_0 18 rfl rfl)
theorem dX0_aim_21 : decode cX0_aim 21 = .ok (.iconst 1, 1) := dk_4 (dk_at dksX0_aim_0 21 rfl rfl)
theorem dX0_aim_22 : decode cX0_aim 22 = .ok (.goto 4, 3) := dk_167 0 4 (dk_at dksX0_aim_1 0 rfl rfl)
theorem dX0_aim_25 : decode cX0_aim 25 = .ok (.iconst 0, 1) := dk_3 (dk_at dksX0_aim_1 3 rfl rfl)
theorem dX0_aim_26 : decode cX0_aim 26 = .ok (.ireturn, 1) := dk_172 (dk_at dksX0_aim_1 4 rfl rfl)
abbrev cX0_hook : ByteArray := prog_1_method_35_code
def yX0_hook : MethodName := ⟨RX0, "hook", "(I)Z"⟩
def dkwX0_hook_4 : List UInt8 := [180, 0, 86, 27, 50, 4, 46, 16, 10, 104, 79, 4, 172]
abbrev dktX0_hook_4 : List UInt8 := dkwX0_hook_4 ++ []
def dkwX0_hook_3 : List UInt8 := [180, 0, 21, 180, 0, 86, 27, 50, 3, 46, 79, 42, 180, 0, 21, 180, 0, 176, 16, 7, 42, 180, 0, 21]
abbrev dktX0_hook_3 : List UInt8 := dkwX0_hook_3 ++ dktX0_hook_4
def dkwX0_hook_2 : List UInt8 := [182, 0, 200, 42, 180, 0, 21, 180, 0, 176, 16, 10, 27, 79, 42, 180, 0, 21, 180, 0, 176, 8, 42]
abbrev dktX0_hook_2 : List UInt8 := dkwX0_hook_2 ++ dktX0_hook_3
def dkwX0_hook_1 : List UInt8 := [154, 0, 17, 42, 180, 0, 21, 180, 0, 176, 16, 10, 46, 2, 159, 0, 5, 3, 172, 42, 180, 0, 21]
abbrev dktX0_hook_1 : List UInt8 := dkwX0_hook_1 ++ dktX0_hook_2
def dkwX0_hook_0 : List UInt8 := [42, 27, 182, 0, 215, 153, 0, 34, 42, 180, 0, 21, 180, 0, 176, 16, 11, 46, 27, 184, 0, 218]
abbrev dktX0_hook_0 : List UInt8 := dkwX0_hook_0 ++ dktX0_hook_1
theorem dksX0_hook_0 : cX0_hook.data.toList.drop 0 = dktX0_hook_0 := by decide +kernel
theorem dksX0_hook_1 : cX0_hook.data.toList.drop 22 = dktX0_hook_1 := dk_seg dksX0_hook_0 22 rfl rfl
theorem dksX0_hook_2 : cX0_hook.data.toList.drop 45 = dktX0_hook_2 := dk_seg dksX0_hook_1 23 rfl rfl
theorem dksX0_hook_3 : cX0_hook.data.toList.drop 68 = dktX0_hook_3 := dk_seg dksX0_hook_2 23 rfl rfl
theorem dksX0_hook_4 : cX0_hook.data.toList.drop 92 = dktX0_hook_4 := dk_seg dksX0_hook_3 24 rfl rfl
theorem dX0_hook_0 : decode cX0_hook 0 = .ok (.aload_n 0, 1) := dk_42 (dk_at dksX0_hook_0 0 rfl rfl)
theorem dX0_hook_1 : decode cX0_hook 1 = .ok (.iload_n 1, 1) := dk_27 (dk_at dksX0_hook_0 1 rfl rfl)
theorem dX0_hook_2 : decode cX0_hook 2 = .ok (.invokevirtual 215, 3) := dk_182 0 215 (dk_at dksX0_hook_0 2 rfl rfl)
theorem dX0_hook_5 : decode cX0_hook 5 = .ok (.ifCond .eq 34, 3) := dk_153 0 34 (dk_at dksX0_hook_0 5 rfl rfl)
theorem dX0_hook_8 : decode cX0_hook 8 = .ok (.aload_n 0, 1) := dk_42 (dk_at dksX0_hook_0 8 rfl rfl)
theorem dX0_hook_9 : decode cX0_hook 9 = .ok (.getfield 21, 3) := dk_180 0 21 (dk_at dksX0_hook_0 9 rfl rfl)
theorem dX0_hook_12 : decode cX0_hook 12 = .ok (.getfield 176, 3) := dk_180 0 176 (dk_at dksX0_hook_0 12 rfl rfl)
theorem dX0_hook_15 : decode cX0_hook 15 = .ok (.bipush 11, 2) := dk_16 11 (dk_at dksX0_hook_0 15 rfl rfl)
theorem dX0_hook_17 : decode cX0_hook 17 = .ok (.iaload, 1) := dk_46 (dk_at dksX0_hook_0 17 rfl rfl)
theorem dX0_hook_18 : decode cX0_hook 18 = .ok (.iload_n 1, 1) := dk_27 (dk_at dksX0_hook_0 18 rfl rfl)
theorem dX0_hook_19 : decode cX0_hook 19 = .ok (.invokestatic 218, 3) := dk_184 0 218 (dk_at dksX0_hook_0 19 rfl rfl)
theorem dX0_hook_22 : decode cX0_hook 22 = .ok (.ifCond .ne 17, 3) := dk_154 0 17 (dk_at dksX0_hook_1 0 rfl rfl)
theorem dX0_hook_25 : decode cX0_hook 25 = .ok (.aload_n 0, 1) := dk_42 (dk_at dksX0_hook_1 3 rfl rfl)
theorem dX0_hook_26 : decode cX0_hook 26 = .ok (.getfield 21, 3) := dk_180 0 21 (dk_at dksX0_hook_1 4 rfl rfl)
theorem dX0_hook_29 : decode cX0_hook 29 = .ok (.getfield 176, 3) := dk_180 0 176 (dk_at dksX0_hook_1 7 rfl rfl)
theorem dX0_hook_32 : decode cX0_hook 32 = .ok (.bipush 10, 2) := dk_16 10 (dk_at dksX0_hook_1 10 rfl rfl)
theorem dX0_hook_34 : decode cX0_hook 34 = .ok (.iaload, 1) := dk_46 (dk_at dksX0_hook_1 12 rfl rfl)
theorem dX0_hook_35 : decode cX0_hook 35 = .ok (.iconst (-1), 1) := dk_2 (dk_at dksX0_hook_1 13 rfl rfl)
theorem dX0_hook_36 : decode cX0_hook 36 = .ok (.if_icmp .eq 5, 3) := dk_159 0 5 (dk_at dksX0_hook_1 14 rfl rfl)
theorem dX0_hook_39 : decode cX0_hook 39 = .ok (.iconst 0, 1) := dk_3 (dk_at dksX0_hook_1 17 rfl rfl)
theorem dX0_hook_40 : decode cX0_hook 40 = .ok (.ireturn, 1) := dk_172 (dk_at dksX0_hook_1 18 rfl rfl)
theorem dX0_hook_41 : decode cX0_hook 41 = .ok (.aload_n 0, 1) := dk_42 (dk_at dksX0_hook_1 19 rfl rfl)
theorem dX0_hook_42 : decode cX0_hook 42 = .ok (.getfield 21, 3) := dk_180 0 21 (dk_at dksX0_hook_1 20 rfl rfl)
theorem dX0_hook_45 : decode cX0_hook 45 = .ok (.invokevirtual 200, 3) := dk_182 0 200 (dk_at dksX0_hook_2 0 rfl rfl)
theorem dX0_hook_48 : decode cX0_hook 48 = .ok (.aload_n 0, 1) := dk_42 (dk_at dksX0_hook_2 3 rfl rfl)
theorem dX0_hook_49 : decode cX0_hook 49 = .ok (.getfield 21, 3) := dk_180 0 21 (dk_at dksX0_hook_2 4 rfl rfl)
theorem dX0_hook_52 : decode cX0_hook 52 = .ok (.getfield 176, 3) := dk_180 0 176 (dk_at dksX0_hook_2 7 rfl rfl)
theorem dX0_hook_55 : decode cX0_hook 55 = .ok (.bipush 10, 2) := dk_16 10 (dk_at dksX0_hook_2 10 rfl rfl)
theorem dX0_hook_57 : decode cX0_hook 57 = .ok (.iload_n 1, 1) := dk_27 (dk_at dksX0_hook_2 12 rfl rfl)
theorem dX0_hook_58 : decode cX0_hook 58 = .ok (.iastore, 1) := dk_79 (dk_at dksX0_hook_2 13 rfl rfl)
theorem dX0_hook_59 : decode cX0_hook 59 = .ok (.aload_n 0, 1) := dk_42 (dk_at dksX0_hook_2 14 rfl rfl)
theorem dX0_hook_60 : decode cX0_hook 60 = .ok (.getfield 21, 3) := dk_180 0 21 (dk_at dksX0_hook_2 15 rfl rfl)
theorem dX0_hook_63 : decode cX0_hook 63 = .ok (.getfield 176, 3) := dk_180 0 176 (dk_at dksX0_hook_2 18 rfl rfl)
theorem dX0_hook_66 : decode cX0_hook 66 = .ok (.iconst 5, 1) := dk_8 (dk_at dksX0_hook_2 21 rfl rfl)
theorem dX0_hook_67 : decode cX0_hook 67 = .ok (.aload_n 0, 1) := dk_42 (dk_at dksX0_hook_2 22 rfl rfl)
theorem dX0_hook_68 : decode cX0_hook 68 = .ok (.getfield 21, 3) := dk_180 0 21 (dk_at dksX0_hook_3 0 rfl rfl)
theorem dX0_hook_71 : decode cX0_hook 71 = .ok (.getfield 86, 3) := dk_180 0 86 (dk_at dksX0_hook_3 3 rfl rfl)
theorem dX0_hook_74 : decode cX0_hook 74 = .ok (.iload_n 1, 1) := dk_27 (dk_at dksX0_hook_3 6 rfl rfl)
theorem dX0_hook_75 : decode cX0_hook 75 = .ok (.aaload, 1) := dk_50 (dk_at dksX0_hook_3 7 rfl rfl)
theorem dX0_hook_76 : decode cX0_hook 76 = .ok (.iconst 0, 1) := dk_3 (dk_at dksX0_hook_3 8 rfl rfl)
theorem dX0_hook_77 : decode cX0_hook 77 = .ok (.iaload, 1) := dk_46 (dk_at dksX0_hook_3 9 rfl rfl)
theorem dX0_hook_78 : decode cX0_hook 78 = .ok (.iastore, 1) := dk_79 (dk_at dksX0_hook_3 10 rfl rfl)
theorem dX0_hook_79 : decode cX0_hook 79 = .ok (.aload_n 0, 1) := dk_42 (dk_at dksX0_hook_3 11 rfl rfl)
theorem dX0_hook_80 : decode cX0_hook 80 = .ok (.getfield 21, 3) := dk_180 0 21 (dk_at dksX0_hook_3 12 rfl rfl)
theorem dX0_hook_83 : decode cX0_hook 83 = .ok (.getfield 176, 3) := dk_180 0 176 (dk_at dksX0_hook_3 15 rfl rfl)
theorem dX0_hook_86 : decode cX0_hook 86 = .ok (.bipush 7, 2) := dk_16 7 (dk_at dksX0_hook_3 18 rfl rfl)
theorem dX0_hook_88 : decode cX0_hook 88 = .ok (.aload_n 0, 1) := dk_42 (dk_at dksX0_hook_3 20 rfl rfl)
theorem dX0_hook_89 : decode cX0_hook 89 = .ok (.getfield 21, 3) := dk_180 0 21 (dk_at dksX0_hook_3 21 rfl rfl)
theorem dX0_hook_92 : decode cX0_hook 92 = .ok (.getfield 86, 3) := dk_180 0 86 (dk_at dksX0_hook_4 0 rfl rfl)
theorem dX0_hook_95 : decode cX0_hook 95 = .ok (.iload_n 1, 1) := dk_27 (dk_at dksX0_hook_4 3 rfl rfl)
theorem dX0_hook_96 : decode cX0_hook 96 = .ok (.aaload, 1) := dk_50 (dk_at dksX0_hook_4 4 rfl rfl)
theorem dX0_hook_97 : decode cX0_hook 97 = .ok (.iconst 1, 1) := dk_4 (dk_at dksX0_hook_4 5 rfl rfl)
theorem dX0_hook_98 : decode cX0_hook 98 = .ok (.iaload, 1) := dk_46 (dk_at dksX0_hook_4 6 rfl rfl)
theorem dX0_hook_99 : decode cX0_hook 99 = .ok (.bipush 10, 2) := dk_16 10 (dk_at dksX0_hook_4 7 rfl rfl)
theorem dX0_hook_101 : decode cX0_hook 101 = .ok (.imul, 1) := dk_104 (dk_at dksX0_hook_4 9 rfl rfl)
theorem dX0_hook_102 : decode cX0_hook 102 = .ok (.iastore, 1) := dk_79 (dk_at dksX0_hook_4 10 rfl rfl)
theorem dX0_hook_103 : decode cX0_hook 103 = .ok (.iconst 1, 1) := dk_4 (dk_at dksX0_hook_4 11 rfl rfl)
theorem dX0_hook_104 : decode cX0_hook 104 = .ok (.ireturn, 1) := dk_172 (dk_at dksX0_hook_4 12 rfl rfl)
abbrev cX0_isOrder : ByteArray := prog_1_method_5_code
def yX0_isOrder : MethodName := ⟨RX0, "isOrder", "(I)Z"⟩
def dkwX0_isOrder_0 : List UInt8 := [27, 3, 42, 180, 0, 21, 180, 0, 79, 3, 46, 4, 100, 184, 0, 82, 172]
abbrev dktX0_isOrder_0 : List UInt8 := dkwX0_isOrder_0 ++ []
theorem dksX0_isOrder_0 : cX0_isOrder.data.toList.drop 0 = dktX0_isOrder_0 := by decide +kernel
theorem dX0_isOrder_0 : decode cX0_isOrder 0 = .ok (.iload_n 1, 1) := dk_27 (dk_at dksX0_isOrder_0 0 rfl rfl)
theorem dX0_isOrder_1 : decode cX0_isOrder 1 = .ok (.iconst 0, 1) := dk_3 (dk_at dksX0_isOrder_0 1 rfl rfl)
theorem dX0_isOrder_2 : decode cX0_isOrder 2 = .ok (.aload_n 0, 1) := dk_42 (dk_at dksX0_isOrder_0 2 rfl rfl)
theorem dX0_isOrder_3 : decode cX0_isOrder 3 = .ok (.getfield 21, 3) := dk_180 0 21 (dk_at dksX0_isOrder_0 3 rfl rfl)
theorem dX0_isOrder_6 : decode cX0_isOrder 6 = .ok (.getfield 79, 3) := dk_180 0 79 (dk_at dksX0_isOrder_0 6 rfl rfl)
theorem dX0_isOrder_9 : decode cX0_isOrder 9 = .ok (.iconst 0, 1) := dk_3 (dk_at dksX0_isOrder_0 9 rfl rfl)
theorem dX0_isOrder_10 : decode cX0_isOrder 10 = .ok (.iaload, 1) := dk_46 (dk_at dksX0_isOrder_0 10 rfl rfl)
theorem dX0_isOrder_11 : decode cX0_isOrder 11 = .ok (.iconst 1, 1) := dk_4 (dk_at dksX0_isOrder_0 11 rfl rfl)
theorem dX0_isOrder_12 : decode cX0_isOrder 12 = .ok (.isub, 1) := dk_100 (dk_at dksX0_isOrder_0 12 rfl rfl)
theorem dX0_isOrder_13 : decode cX0_isOrder 13 = .ok (.invokestatic 82, 3) := dk_184 0 82 (dk_at dksX0_isOrder_0 13 rfl rfl)
theorem dX0_isOrder_16 : decode cX0_isOrder 16 = .ok (.ireturn, 1) := dk_172 (dk_at dksX0_isOrder_0 16 rfl rfl)
abbrev cX0_has : ByteArray := prog_1_method_2_code
def yX0_has : MethodName := ⟨RX0, "has", "(II)Z"⟩
def dkwX0_has_0 : List UInt8 := [26, 27, 122, 4, 126, 4, 160, 0, 7, 4, 167, 0, 4, 3, 172]
abbrev dktX0_has_0 : List UInt8 := dkwX0_has_0 ++ []
theorem dksX0_has_0 : cX0_has.data.toList.drop 0 = dktX0_has_0 := by decide +kernel
theorem dX0_has_0 : decode cX0_has 0 = .ok (.iload_n 0, 1) := dk_26 (dk_at dksX0_has_0 0 rfl rfl)
theorem dX0_has_1 : decode cX0_has 1 = .ok (.iload_n 1, 1) := dk_27 (dk_at dksX0_has_0 1 rfl rfl)
theorem dX0_has_2 : decode cX0_has 2 = .ok (.ishr, 1) := dk_122 (dk_at dksX0_has_0 2 rfl rfl)
theorem dX0_has_3 : decode cX0_has 3 = .ok (.iconst 1, 1) := dk_4 (dk_at dksX0_has_0 3 rfl rfl)
theorem dX0_has_4 : decode cX0_has 4 = .ok (.iand, 1) := dk_126 (dk_at dksX0_has_0 4 rfl rfl)
theorem dX0_has_5 : decode cX0_has 5 = .ok (.iconst 1, 1) := dk_4 (dk_at dksX0_has_0 5 rfl rfl)
theorem dX0_has_6 : decode cX0_has 6 = .ok (.if_icmp .ne 7, 3) := dk_160 0 7 (dk_at dksX0_has_0 6 rfl rfl)
theorem dX0_has_9 : decode cX0_has 9 = .ok (.iconst 1, 1) := dk_4 (dk_at dksX0_has_0 9 rfl rfl)
theorem dX0_has_10 : decode cX0_has 10 = .ok (.goto 4, 3) := dk_167 0 4 (dk_at dksX0_has_0 10 rfl rfl)
theorem dX0_has_13 : decode cX0_has 13 = .ok (.iconst 0, 1) := dk_3 (dk_at dksX0_has_0 13 rfl rfl)
theorem dX0_has_14 : decode cX0_has 14 = .ok (.ireturn, 1) := dk_172 (dk_at dksX0_has_0 14 rfl rfl)
abbrev cX0_land : ByteArray := prog_1_method_37_code
def yX0_land : MethodName := ⟨RX0, "land", "()I"⟩
def dkwX0_land_3 : List UInt8 := [27, 120, 128, 79, 42, 27, 182, 0, 225, 27, 172]
abbrev dktX0_land_3 : List UInt8 := dkwX0_land_3 ++ []
def dkwX0_land_2 : List UInt8 := [2, 79, 42, 180, 0, 21, 180, 0, 176, 8, 3, 79, 42, 180, 0, 21, 180, 0, 176, 16, 11, 92, 46, 4]
abbrev dktX0_land_2 : List UInt8 := dkwX0_land_2 ++ dktX0_land_3
def dkwX0_land_1 : List UInt8 := [182, 0, 221, 154, 0, 5, 2, 172, 42, 180, 0, 21, 182, 0, 200, 42, 180, 0, 21, 180, 0, 176, 16, 10]
abbrev dktX0_land_1 : List UInt8 := dkwX0_land_1 ++ dktX0_land_2
def dkwX0_land_0 : List UInt8 := [42, 180, 0, 21, 180, 0, 176, 16, 10, 46, 60, 27, 2, 159, 0, 17, 42, 42, 180, 0, 21, 180, 0, 176]
abbrev dktX0_land_0 : List UInt8 := dkwX0_land_0 ++ dktX0_land_1
theorem dksX0_land_0 : cX0_land.data.toList.drop 0 = dktX0_land_0 := by decide +kernel
theorem dksX0_land_1 : cX0_land.data.toList.drop 24 = dktX0_land_1 := dk_seg dksX0_land_0 24 rfl rfl
theorem dksX0_land_2 : cX0_land.data.toList.drop 48 = dktX0_land_2 := dk_seg dksX0_land_1 24 rfl rfl
theorem dksX0_land_3 : cX0_land.data.toList.drop 72 = dktX0_land_3 := dk_seg dksX0_land_2 24 rfl rfl
theorem dX0_land_0 : decode cX0_land 0 = .ok (.aload_n 0, 1) := dk_42 (dk_at dksX0_land_0 0 rfl rfl)
theorem dX0_land_1 : decode cX0_land 1 = .ok (.getfield 21, 3) := dk_180 0 21 (dk_at dksX0_land_0 1 rfl rfl)
theorem dX0_land_4 : decode cX0_land 4 = .ok (.getfield 176, 3) := dk_180 0 176 (dk_at dksX0_land_0 4 rfl rfl)
theorem dX0_land_7 : decode cX0_land 7 = .ok (.bipush 10, 2) := dk_16 10 (dk_at dksX0_land_0 7 rfl rfl)
theorem dX0_land_9 : decode cX0_land 9 = .ok (.iaload, 1) := dk_46 (dk_at dksX0_land_0 9 rfl rfl)
theorem dX0_land_10 : decode cX0_land 10 = .ok (.istore_n 1, 1) := dk_60 (dk_at dksX0_land_0 10 rfl rfl)
theorem dX0_land_11 : decode cX0_land 11 = .ok (.iload_n 1, 1) := dk_27 (dk_at dksX0_land_0 11 rfl rfl)
theorem dX0_land_12 : decode cX0_land 12 = .ok (.iconst (-1), 1) := dk_2 (dk_at dksX0_land_0 12 rfl rfl)
theorem dX0_land_13 : decode cX0_land 13 = .ok (.if_icmp .eq 17, 3) := dk_159 0 17 (dk_at dksX0_land_0 13 rfl rfl)
theorem dX0_land_16 : decode cX0_land 16 = .ok (.aload_n 0, 1) := dk_42 (dk_at dksX0_land_0 16 rfl rfl)
theorem dX0_land_17 : decode cX0_land 17 = .ok (.aload_n 0, 1) := dk_42 (dk_at dksX0_land_0 17 rfl rfl)
theorem dX0_land_18 : decode cX0_land 18 = .ok (.getfield 21, 3) := dk_180 0 21 (dk_at dksX0_land_0 18 rfl rfl)
theorem dX0_land_21 : decode cX0_land 21 = .ok (.getfield 176, 3) := dk_180 0 176 (dk_at dksX0_land_0 21 rfl rfl)
theorem dX0_land_24 : decode cX0_land 24 = .ok (.invokevirtual 221, 3) := dk_182 0 221 (dk_at dksX0_land_1 0 rfl rfl)
theorem dX0_land_27 : decode cX0_land 27 = .ok (.ifCond .ne 5, 3) := dk_154 0 5 (dk_at dksX0_land_1 3 rfl rfl)
theorem dX0_land_30 : decode cX0_land 30 = .ok (.iconst (-1), 1) := dk_2 (dk_at dksX0_land_1 6 rfl rfl)
theorem dX0_land_31 : decode cX0_land 31 = .ok (.ireturn, 1) := dk_172 (dk_at dksX0_land_1 7 rfl rfl)
theorem dX0_land_32 : decode cX0_land 32 = .ok (.aload_n 0, 1) := dk_42 (dk_at dksX0_land_1 8 rfl rfl)
theorem dX0_land_33 : decode cX0_land 33 = .ok (.getfield 21, 3) := dk_180 0 21 (dk_at dksX0_land_1 9 rfl rfl)
theorem dX0_land_36 : decode cX0_land 36 = .ok (.invokevirtual 200, 3) := dk_182 0 200 (dk_at dksX0_land_1 12 rfl rfl)
theorem dX0_land_39 : decode cX0_land 39 = .ok (.aload_n 0, 1) := dk_42 (dk_at dksX0_land_1 15 rfl rfl)
theorem dX0_land_40 : decode cX0_land 40 = .ok (.getfield 21, 3) := dk_180 0 21 (dk_at dksX0_land_1 16 rfl rfl)
theorem dX0_land_43 : decode cX0_land 43 = .ok (.getfield 176, 3) := dk_180 0 176 (dk_at dksX0_land_1 19 rfl rfl)
theorem dX0_land_46 : decode cX0_land 46 = .ok (.bipush 10, 2) := dk_16 10 (dk_at dksX0_land_1 22 rfl rfl)
theorem dX0_land_48 : decode cX0_land 48 = .ok (.iconst (-1), 1) := dk_2 (dk_at dksX0_land_2 0 rfl rfl)
theorem dX0_land_49 : decode cX0_land 49 = .ok (.iastore, 1) := dk_79 (dk_at dksX0_land_2 1 rfl rfl)
theorem dX0_land_50 : decode cX0_land 50 = .ok (.aload_n 0, 1) := dk_42 (dk_at dksX0_land_2 2 rfl rfl)
theorem dX0_land_51 : decode cX0_land 51 = .ok (.getfield 21, 3) := dk_180 0 21 (dk_at dksX0_land_2 3 rfl rfl)
theorem dX0_land_54 : decode cX0_land 54 = .ok (.getfield 176, 3) := dk_180 0 176 (dk_at dksX0_land_2 6 rfl rfl)
theorem dX0_land_57 : decode cX0_land 57 = .ok (.iconst 5, 1) := dk_8 (dk_at dksX0_land_2 9 rfl rfl)
theorem dX0_land_58 : decode cX0_land 58 = .ok (.iconst 0, 1) := dk_3 (dk_at dksX0_land_2 10 rfl rfl)
theorem dX0_land_59 : decode cX0_land 59 = .ok (.iastore, 1) := dk_79 (dk_at dksX0_land_2 11 rfl rfl)
theorem dX0_land_60 : decode cX0_land 60 = .ok (.aload_n 0, 1) := dk_42 (dk_at dksX0_land_2 12 rfl rfl)
theorem dX0_land_61 : decode cX0_land 61 = .ok (.getfield 21, 3) := dk_180 0 21 (dk_at dksX0_land_2 13 rfl rfl)
theorem dX0_land_64 : decode cX0_land 64 = .ok (.getfield 176, 3) := dk_180 0 176 (dk_at dksX0_land_2 16 rfl rfl)
theorem dX0_land_67 : decode cX0_land 67 = .ok (.bipush 11, 2) := dk_16 11 (dk_at dksX0_land_2 19 rfl rfl)
theorem dX0_land_69 : decode cX0_land 69 = .ok (.dup2, 1) := dk_92 (dk_at dksX0_land_2 21 rfl rfl)
theorem dX0_land_70 : decode cX0_land 70 = .ok (.iaload, 1) := dk_46 (dk_at dksX0_land_2 22 rfl rfl)
theorem dX0_land_71 : decode cX0_land 71 = .ok (.iconst 1, 1) := dk_4 (dk_at dksX0_land_2 23 rfl rfl)
theorem dX0_land_72 : decode cX0_land 72 = .ok (.iload_n 1, 1) := dk_27 (dk_at dksX0_land_3 0 rfl rfl)
theorem dX0_land_73 : decode cX0_land 73 = .ok (.ishl, 1) := dk_120 (dk_at dksX0_land_3 1 rfl rfl)
theorem dX0_land_74 : decode cX0_land 74 = .ok (.ior, 1) := dk_128 (dk_at dksX0_land_3 2 rfl rfl)
theorem dX0_land_75 : decode cX0_land 75 = .ok (.iastore, 1) := dk_79 (dk_at dksX0_land_3 3 rfl rfl)
theorem dX0_land_76 : decode cX0_land 76 = .ok (.aload_n 0, 1) := dk_42 (dk_at dksX0_land_3 4 rfl rfl)
theorem dX0_land_77 : decode cX0_land 77 = .ok (.iload_n 1, 1) := dk_27 (dk_at dksX0_land_3 5 rfl rfl)
theorem dX0_land_78 : decode cX0_land 78 = .ok (.invokevirtual 225, 3) := dk_182 0 225 (dk_at dksX0_land_3 6 rfl rfl)
theorem dX0_land_81 : decode cX0_land 81 = .ok (.iload_n 1, 1) := dk_27 (dk_at dksX0_land_3 9 rfl rfl)
theorem dX0_land_82 : decode cX0_land 82 = .ok (.ireturn, 1) := dk_172 (dk_at dksX0_land_3 10 rfl rfl)
abbrev cX0_hangsStill : ByteArray := prog_1_method_29_code
def yX0_hangsStill : MethodName := ⟨RX0, "hangsStill", "([I)Z"⟩
def dkwX0_hangsStill_2 : List UInt8 := [184, 0, 197, 4, 163, 0, 7, 4, 167, 0, 4, 3, 172]
abbrev dktX0_hangsStill_2 : List UInt8 := dkwX0_hangsStill_2 ++ []
def dkwX0_hangsStill_1 : List UInt8 := [184, 0, 197, 28, 163, 0, 31, 43, 3, 46, 43, 5, 46, 100, 184, 0, 197, 28, 163, 0, 17, 43, 6, 46]
abbrev dktX0_hangsStill_1 : List UInt8 := dkwX0_hangsStill_1 ++ dktX0_hangsStill_2
def dkwX0_hangsStill_0 : List UInt8 := [42, 180, 0, 21, 180, 0, 79, 4, 46, 61, 43, 4, 46, 154, 0, 46, 43, 3, 46, 43, 16, 7, 46, 100]
abbrev dktX0_hangsStill_0 : List UInt8 := dkwX0_hangsStill_0 ++ dktX0_hangsStill_1
theorem dksX0_hangsStill_0 : cX0_hangsStill.data.toList.drop 0 = dktX0_hangsStill_0 := by decide +kernel
theorem dksX0_hangsStill_1 : cX0_hangsStill.data.toList.drop 24 = dktX0_hangsStill_1 := dk_seg dksX0_hangsStill_0 24 rfl rfl
theorem dksX0_hangsStill_2 : cX0_hangsStill.data.toList.drop 48 = dktX0_hangsStill_2 := dk_seg dksX0_hangsStill_1 24 rfl rfl
theorem dX0_hangsStill_0 : decode cX0_hangsStill 0 = .ok (.aload_n 0, 1) := dk_42 (dk_at dksX0_hangsStill_0 0 rfl rfl)
theorem dX0_hangsStill_1 : decode cX0_hangsStill 1 = .ok (.getfield 21, 3) := dk_180 0 21 (dk_at dksX0_hangsStill_0 1 rfl rfl)
theorem dX0_hangsStill_4 : decode cX0_hangsStill 4 = .ok (.getfield 79, 3) := dk_180 0 79 (dk_at dksX0_hangsStill_0 4 rfl rfl)
theorem dX0_hangsStill_7 : decode cX0_hangsStill 7 = .ok (.iconst 1, 1) := dk_4 (dk_at dksX0_hangsStill_0 7 rfl rfl)
theorem dX0_hangsStill_8 : decode cX0_hangsStill 8 = .ok (.iaload, 1) := dk_46 (dk_at dksX0_hangsStill_0 8 rfl rfl)
theorem dX0_hangsStill_9 : decode cX0_hangsStill 9 = .ok (.istore_n 2, 1) := dk_61 (dk_at dksX0_hangsStill_0 9 rfl rfl)
theorem dX0_hangsStill_10 : decode cX0_hangsStill 10 = .ok (.aload_n 1, 1) := dk_43 (dk_at dksX0_hangsStill_0 10 rfl rfl)
theorem dX0_hangsStill_11 : decode cX0_hangsStill 11 = .ok (.iconst 1, 1) := dk_4 (dk_at dksX0_hangsStill_0 11 rfl rfl)
theorem dX0_hangsStill_12 : decode cX0_hangsStill 12 = .ok (.iaload, 1) := dk_46 (dk_at dksX0_hangsStill_0 12 rfl rfl)
theorem dX0_hangsStill_13 : decode cX0_hangsStill 13 = .ok (.ifCond .ne 46, 3) := dk_154 0 46 (dk_at dksX0_hangsStill_0 13 rfl rfl)
theorem dX0_hangsStill_16 : decode cX0_hangsStill 16 = .ok (.aload_n 1, 1) := dk_43 (dk_at dksX0_hangsStill_0 16 rfl rfl)
theorem dX0_hangsStill_17 : decode cX0_hangsStill 17 = .ok (.iconst 0, 1) := dk_3 (dk_at dksX0_hangsStill_0 17 rfl rfl)
theorem dX0_hangsStill_18 : decode cX0_hangsStill 18 = .ok (.iaload, 1) := dk_46 (dk_at dksX0_hangsStill_0 18 rfl rfl)
theorem dX0_hangsStill_19 : decode cX0_hangsStill 19 = .ok (.aload_n 1, 1) := dk_43 (dk_at dksX0_hangsStill_0 19 rfl rfl)
theorem dX0_hangsStill_20 : decode cX0_hangsStill 20 = .ok (.bipush 7, 2) := dk_16 7 (dk_at dksX0_hangsStill_0 20 rfl rfl)
theorem dX0_hangsStill_22 : decode cX0_hangsStill 22 = .ok (.iaload, 1) := dk_46 (dk_at dksX0_hangsStill_0 22 rfl rfl)
theorem dX0_hangsStill_23 : decode cX0_hangsStill 23 = .ok (.isub, 1) := dk_100 (dk_at dksX0_hangsStill_0 23 rfl rfl)
theorem dX0_hangsStill_24 : decode cX0_hangsStill 24 = .ok (.invokestatic 197, 3) := dk_184 0 197 (dk_at dksX0_hangsStill_1 0 rfl rfl)
theorem dX0_hangsStill_27 : decode cX0_hangsStill 27 = .ok (.iload_n 2, 1) := dk_28 (dk_at dksX0_hangsStill_1 3 rfl rfl)
theorem dX0_hangsStill_28 : decode cX0_hangsStill 28 = .ok (.if_icmp .gt 31, 3) := dk_163 0 31 (dk_at dksX0_hangsStill_1 4 rfl rfl)
theorem dX0_hangsStill_31 : decode cX0_hangsStill 31 = .ok (.aload_n 1, 1) := dk_43 (dk_at dksX0_hangsStill_1 7 rfl rfl)
theorem dX0_hangsStill_32 : decode cX0_hangsStill 32 = .ok (.iconst 0, 1) := dk_3 (dk_at dksX0_hangsStill_1 8 rfl rfl)
theorem dX0_hangsStill_33 : decode cX0_hangsStill 33 = .ok (.iaload, 1) := dk_46 (dk_at dksX0_hangsStill_1 9 rfl rfl)
theorem dX0_hangsStill_34 : decode cX0_hangsStill 34 = .ok (.aload_n 1, 1) := dk_43 (dk_at dksX0_hangsStill_1 10 rfl rfl)
theorem dX0_hangsStill_35 : decode cX0_hangsStill 35 = .ok (.iconst 2, 1) := dk_5 (dk_at dksX0_hangsStill_1 11 rfl rfl)
theorem dX0_hangsStill_36 : decode cX0_hangsStill 36 = .ok (.iaload, 1) := dk_46 (dk_at dksX0_hangsStill_1 12 rfl rfl)
theorem dX0_hangsStill_37 : decode cX0_hangsStill 37 = .ok (.isub, 1) := dk_100 (dk_at dksX0_hangsStill_1 13 rfl rfl)
theorem dX0_hangsStill_38 : decode cX0_hangsStill 38 = .ok (.invokestatic 197, 3) := dk_184 0 197 (dk_at dksX0_hangsStill_1 14 rfl rfl)
theorem dX0_hangsStill_41 : decode cX0_hangsStill 41 = .ok (.iload_n 2, 1) := dk_28 (dk_at dksX0_hangsStill_1 17 rfl rfl)
theorem dX0_hangsStill_42 : decode cX0_hangsStill 42 = .ok (.if_icmp .gt 17, 3) := dk_163 0 17 (dk_at dksX0_hangsStill_1 18 rfl rfl)
theorem dX0_hangsStill_45 : decode cX0_hangsStill 45 = .ok (.aload_n 1, 1) := dk_43 (dk_at dksX0_hangsStill_1 21 rfl rfl)
theorem dX0_hangsStill_46 : decode cX0_hangsStill 46 = .ok (.iconst 3, 1) := dk_6 (dk_at dksX0_hangsStill_1 22 rfl rfl)
theorem dX0_hangsStill_47 : decode cX0_hangsStill 47 = .ok (.iaload, 1) := dk_46 (dk_at dksX0_hangsStill_1 23 rfl rfl)
theorem dX0_hangsStill_48 : decode cX0_hangsStill 48 = .ok (.invokestatic 197, 3) := dk_184 0 197 (dk_at dksX0_hangsStill_2 0 rfl rfl)
theorem dX0_hangsStill_51 : decode cX0_hangsStill 51 = .ok (.iconst 1, 1) := dk_4 (dk_at dksX0_hangsStill_2 3 rfl rfl)
theorem dX0_hangsStill_52 : decode cX0_hangsStill 52 = .ok (.if_icmp .gt 7, 3) := dk_163 0 7 (dk_at dksX0_hangsStill_2 4 rfl rfl)
theorem dX0_hangsStill_55 : decode cX0_hangsStill 55 = .ok (.iconst 1, 1) := dk_4 (dk_at dksX0_hangsStill_2 7 rfl rfl)
theorem dX0_hangsStill_56 : decode cX0_hangsStill 56 = .ok (.goto 4, 3) := dk_167 0 4 (dk_at dksX0_hangsStill_2 8 rfl rfl)
theorem dX0_hangsStill_59 : decode cX0_hangsStill 59 = .ok (.iconst 0, 1) := dk_3 (dk_at dksX0_hangsStill_2 11 rfl rfl)
theorem dX0_hangsStill_60 : decode cX0_hangsStill 60 = .ok (.ireturn, 1) := dk_172 (dk_at dksX0_hangsStill_2 12 rfl rfl)
abbrev cX0_writes : ByteArray := prog_1_method_36_code
def yX0_writes : MethodName := ⟨RX0, "writes", "(I)V"⟩
def dkwX0_writes_3 : List UInt8 := [96, 79, 177]
abbrev dktX0_writes_3 : List UInt8 := dkwX0_writes_3 ++ []
def dkwX0_writes_2 : List UInt8 := [79, 44, 16, 13, 5, 44, 16, 12, 46, 104, 96, 4, 96, 44, 16, 8, 46, 79, 44, 16, 12, 92, 46, 4]
abbrev dktX0_writes_2 : List UInt8 := dkwX0_writes_2 ++ dktX0_writes_3
def dkwX0_writes_1 : List UInt8 := [16, 38, 184, 0, 137, 44, 16, 12, 92, 46, 4, 100, 79, 44, 16, 13, 5, 44, 16, 12, 46, 104, 96, 27]
abbrev dktX0_writes_1 : List UInt8 := dkwX0_writes_1 ++ dktX0_writes_2
def dkwX0_writes_0 : List UInt8 := [42, 180, 0, 21, 180, 0, 176, 77, 44, 16, 12, 46, 16, 20, 160, 0, 22, 44, 16, 15, 44, 16, 13]
abbrev dktX0_writes_0 : List UInt8 := dkwX0_writes_0 ++ dktX0_writes_1
theorem dksX0_writes_0 : cX0_writes.data.toList.drop 0 = dktX0_writes_0 := by decide +kernel
theorem dksX0_writes_1 : cX0_writes.data.toList.drop 23 = dktX0_writes_1 := dk_seg dksX0_writes_0 23 rfl rfl
theorem dksX0_writes_2 : cX0_writes.data.toList.drop 47 = dktX0_writes_2 := dk_seg dksX0_writes_1 24 rfl rfl
theorem dksX0_writes_3 : cX0_writes.data.toList.drop 71 = dktX0_writes_3 := dk_seg dksX0_writes_2 24 rfl rfl
theorem dX0_writes_0 : decode cX0_writes 0 = .ok (.aload_n 0, 1) := dk_42 (dk_at dksX0_writes_0 0 rfl rfl)
theorem dX0_writes_1 : decode cX0_writes 1 = .ok (.getfield 21, 3) := dk_180 0 21 (dk_at dksX0_writes_0 1 rfl rfl)
theorem dX0_writes_4 : decode cX0_writes 4 = .ok (.getfield 176, 3) := dk_180 0 176 (dk_at dksX0_writes_0 4 rfl rfl)
theorem dX0_writes_7 : decode cX0_writes 7 = .ok (.astore_n 2, 1) := dk_77 (dk_at dksX0_writes_0 7 rfl rfl)
theorem dX0_writes_8 : decode cX0_writes 8 = .ok (.aload_n 2, 1) := dk_44 (dk_at dksX0_writes_0 8 rfl rfl)
theorem dX0_writes_9 : decode cX0_writes 9 = .ok (.bipush 12, 2) := dk_16 12 (dk_at dksX0_writes_0 9 rfl rfl)
theorem dX0_writes_11 : decode cX0_writes 11 = .ok (.iaload, 1) := dk_46 (dk_at dksX0_writes_0 11 rfl rfl)
theorem dX0_writes_12 : decode cX0_writes 12 = .ok (.bipush 20, 2) := dk_16 20 (dk_at dksX0_writes_0 12 rfl rfl)
theorem dX0_writes_14 : decode cX0_writes 14 = .ok (.if_icmp .ne 22, 3) := dk_160 0 22 (dk_at dksX0_writes_0 14 rfl rfl)
theorem dX0_writes_17 : decode cX0_writes 17 = .ok (.aload_n 2, 1) := dk_44 (dk_at dksX0_writes_0 17 rfl rfl)
theorem dX0_writes_18 : decode cX0_writes 18 = .ok (.bipush 15, 2) := dk_16 15 (dk_at dksX0_writes_0 18 rfl rfl)
theorem dX0_writes_20 : decode cX0_writes 20 = .ok (.aload_n 2, 1) := dk_44 (dk_at dksX0_writes_0 20 rfl rfl)
theorem dX0_writes_21 : decode cX0_writes 21 = .ok (.bipush 13, 2) := dk_16 13 (dk_at dksX0_writes_0 21 rfl rfl)
theorem dX0_writes_23 : decode cX0_writes 23 = .ok (.bipush 38, 2) := dk_16 38 (dk_at dksX0_writes_1 0 rfl rfl)
theorem dX0_writes_25 : decode cX0_writes 25 = .ok (.invokestatic 137, 3) := dk_184 0 137 (dk_at dksX0_writes_1 2 rfl rfl)
theorem dX0_writes_28 : decode cX0_writes 28 = .ok (.aload_n 2, 1) := dk_44 (dk_at dksX0_writes_1 5 rfl rfl)
theorem dX0_writes_29 : decode cX0_writes 29 = .ok (.bipush 12, 2) := dk_16 12 (dk_at dksX0_writes_1 6 rfl rfl)
theorem dX0_writes_31 : decode cX0_writes 31 = .ok (.dup2, 1) := dk_92 (dk_at dksX0_writes_1 8 rfl rfl)
theorem dX0_writes_32 : decode cX0_writes 32 = .ok (.iaload, 1) := dk_46 (dk_at dksX0_writes_1 9 rfl rfl)
theorem dX0_writes_33 : decode cX0_writes 33 = .ok (.iconst 1, 1) := dk_4 (dk_at dksX0_writes_1 10 rfl rfl)
theorem dX0_writes_34 : decode cX0_writes 34 = .ok (.isub, 1) := dk_100 (dk_at dksX0_writes_1 11 rfl rfl)
theorem dX0_writes_35 : decode cX0_writes 35 = .ok (.iastore, 1) := dk_79 (dk_at dksX0_writes_1 12 rfl rfl)
theorem dX0_writes_36 : decode cX0_writes 36 = .ok (.aload_n 2, 1) := dk_44 (dk_at dksX0_writes_1 13 rfl rfl)
theorem dX0_writes_37 : decode cX0_writes 37 = .ok (.bipush 13, 2) := dk_16 13 (dk_at dksX0_writes_1 14 rfl rfl)
theorem dX0_writes_39 : decode cX0_writes 39 = .ok (.iconst 2, 1) := dk_5 (dk_at dksX0_writes_1 16 rfl rfl)
theorem dX0_writes_40 : decode cX0_writes 40 = .ok (.aload_n 2, 1) := dk_44 (dk_at dksX0_writes_1 17 rfl rfl)
theorem dX0_writes_41 : decode cX0_writes 41 = .ok (.bipush 12, 2) := dk_16 12 (dk_at dksX0_writes_1 18 rfl rfl)
theorem dX0_writes_43 : decode cX0_writes 43 = .ok (.iaload, 1) := dk_46 (dk_at dksX0_writes_1 20 rfl rfl)
theorem dX0_writes_44 : decode cX0_writes 44 = .ok (.imul, 1) := dk_104 (dk_at dksX0_writes_1 21 rfl rfl)
theorem dX0_writes_45 : decode cX0_writes 45 = .ok (.iadd, 1) := dk_96 (dk_at dksX0_writes_1 22 rfl rfl)
theorem dX0_writes_46 : decode cX0_writes 46 = .ok (.iload_n 1, 1) := dk_27 (dk_at dksX0_writes_1 23 rfl rfl)
theorem dX0_writes_47 : decode cX0_writes 47 = .ok (.iastore, 1) := dk_79 (dk_at dksX0_writes_2 0 rfl rfl)
theorem dX0_writes_48 : decode cX0_writes 48 = .ok (.aload_n 2, 1) := dk_44 (dk_at dksX0_writes_2 1 rfl rfl)
theorem dX0_writes_49 : decode cX0_writes 49 = .ok (.bipush 13, 2) := dk_16 13 (dk_at dksX0_writes_2 2 rfl rfl)
theorem dX0_writes_51 : decode cX0_writes 51 = .ok (.iconst 2, 1) := dk_5 (dk_at dksX0_writes_2 4 rfl rfl)
theorem dX0_writes_52 : decode cX0_writes 52 = .ok (.aload_n 2, 1) := dk_44 (dk_at dksX0_writes_2 5 rfl rfl)
theorem dX0_writes_53 : decode cX0_writes 53 = .ok (.bipush 12, 2) := dk_16 12 (dk_at dksX0_writes_2 6 rfl rfl)
theorem dX0_writes_55 : decode cX0_writes 55 = .ok (.iaload, 1) := dk_46 (dk_at dksX0_writes_2 8 rfl rfl)
theorem dX0_writes_56 : decode cX0_writes 56 = .ok (.imul, 1) := dk_104 (dk_at dksX0_writes_2 9 rfl rfl)
theorem dX0_writes_57 : decode cX0_writes 57 = .ok (.iadd, 1) := dk_96 (dk_at dksX0_writes_2 10 rfl rfl)
theorem dX0_writes_58 : decode cX0_writes 58 = .ok (.iconst 1, 1) := dk_4 (dk_at dksX0_writes_2 11 rfl rfl)
theorem dX0_writes_59 : decode cX0_writes 59 = .ok (.iadd, 1) := dk_96 (dk_at dksX0_writes_2 12 rfl rfl)
theorem dX0_writes_60 : decode cX0_writes 60 = .ok (.aload_n 2, 1) := dk_44 (dk_at dksX0_writes_2 13 rfl rfl)
theorem dX0_writes_61 : decode cX0_writes 61 = .ok (.bipush 8, 2) := dk_16 8 (dk_at dksX0_writes_2 14 rfl rfl)
theorem dX0_writes_63 : decode cX0_writes 63 = .ok (.iaload, 1) := dk_46 (dk_at dksX0_writes_2 16 rfl rfl)
theorem dX0_writes_64 : decode cX0_writes 64 = .ok (.iastore, 1) := dk_79 (dk_at dksX0_writes_2 17 rfl rfl)
theorem dX0_writes_65 : decode cX0_writes 65 = .ok (.aload_n 2, 1) := dk_44 (dk_at dksX0_writes_2 18 rfl rfl)
theorem dX0_writes_66 : decode cX0_writes 66 = .ok (.bipush 12, 2) := dk_16 12 (dk_at dksX0_writes_2 19 rfl rfl)
theorem dX0_writes_68 : decode cX0_writes 68 = .ok (.dup2, 1) := dk_92 (dk_at dksX0_writes_2 21 rfl rfl)
theorem dX0_writes_69 : decode cX0_writes 69 = .ok (.iaload, 1) := dk_46 (dk_at dksX0_writes_2 22 rfl rfl)
theorem dX0_writes_70 : decode cX0_writes 70 = .ok (.iconst 1, 1) := dk_4 (dk_at dksX0_writes_2 23 rfl rfl)
theorem dX0_writes_71 : decode cX0_writes 71 = .ok (.iadd, 1) := dk_96 (dk_at dksX0_writes_3 0 rfl rfl)
theorem dX0_writes_72 : decode cX0_writes 72 = .ok (.iastore, 1) := dk_79 (dk_at dksX0_writes_3 1 rfl rfl)
theorem dX0_writes_73 : decode cX0_writes 73 = .ok (.return_, 1) := dk_177 (dk_at dksX0_writes_3 2 rfl rfl)
abbrev cX0_played : ByteArray := prog_1_method_40_code
def yX0_played : MethodName := ⟨RX0, "played", "(I)I"⟩
def dkwX0_played_2 : List UInt8 := [154, 0, 15, 44, 29, 182, 1, 26, 192, 0, 232, 182, 1, 34, 172, 132, 3, 1, 167, 255, 218, 2, 172]
abbrev dktX0_played_2 : List UInt8 := dkwX0_played_2 ++ []
def dkwX0_played_1 : List UInt8 := [3, 62, 29, 44, 182, 1, 21, 162, 0, 36, 42, 44, 29, 182, 1, 26, 192, 0, 232, 182, 1, 30]
abbrev dktX0_played_1 : List UInt8 := dkwX0_played_1 ++ dktX0_played_2
def dkwX0_played_0 : List UInt8 := [42, 27, 182, 0, 119, 154, 0, 6, 16, 254, 172, 42, 180, 0, 21, 180, 0, 100, 27, 50, 180, 1, 17, 77]
abbrev dktX0_played_0 : List UInt8 := dkwX0_played_0 ++ dktX0_played_1
theorem dksX0_played_0 : cX0_played.data.toList.drop 0 = dktX0_played_0 := by decide +kernel
theorem dksX0_played_1 : cX0_played.data.toList.drop 24 = dktX0_played_1 := dk_seg dksX0_played_0 24 rfl rfl
theorem dksX0_played_2 : cX0_played.data.toList.drop 46 = dktX0_played_2 := dk_seg dksX0_played_1 22 rfl rfl
theorem dX0_played_0 : decode cX0_played 0 = .ok (.aload_n 0, 1) := dk_42 (dk_at dksX0_played_0 0 rfl rfl)
theorem dX0_played_1 : decode cX0_played 1 = .ok (.iload_n 1, 1) := dk_27 (dk_at dksX0_played_0 1 rfl rfl)
theorem dX0_played_2 : decode cX0_played 2 = .ok (.invokevirtual 119, 3) := dk_182 0 119 (dk_at dksX0_played_0 2 rfl rfl)
theorem dX0_played_5 : decode cX0_played 5 = .ok (.ifCond .ne 6, 3) := dk_154 0 6 (dk_at dksX0_played_0 5 rfl rfl)
theorem dX0_played_8 : decode cX0_played 8 = .ok (.bipush (-2), 2) := dk_16 254 (dk_at dksX0_played_0 8 rfl rfl)
theorem dX0_played_10 : decode cX0_played 10 = .ok (.ireturn, 1) := dk_172 (dk_at dksX0_played_0 10 rfl rfl)
theorem dX0_played_11 : decode cX0_played 11 = .ok (.aload_n 0, 1) := dk_42 (dk_at dksX0_played_0 11 rfl rfl)
theorem dX0_played_12 : decode cX0_played 12 = .ok (.getfield 21, 3) := dk_180 0 21 (dk_at dksX0_played_0 12 rfl rfl)
theorem dX0_played_15 : decode cX0_played 15 = .ok (.getfield 100, 3) := dk_180 0 100 (dk_at dksX0_played_0 15 rfl rfl)
theorem dX0_played_18 : decode cX0_played 18 = .ok (.iload_n 1, 1) := dk_27 (dk_at dksX0_played_0 18 rfl rfl)
theorem dX0_played_19 : decode cX0_played 19 = .ok (.aaload, 1) := dk_50 (dk_at dksX0_played_0 19 rfl rfl)
theorem dX0_played_20 : decode cX0_played 20 = .ok (.getfield 273, 3) := dk_180 1 17 (dk_at dksX0_played_0 20 rfl rfl)
theorem dX0_played_23 : decode cX0_played 23 = .ok (.astore_n 2, 1) := dk_77 (dk_at dksX0_played_0 23 rfl rfl)
theorem dX0_played_24 : decode cX0_played 24 = .ok (.iconst 0, 1) := dk_3 (dk_at dksX0_played_1 0 rfl rfl)
theorem dX0_played_25 : decode cX0_played 25 = .ok (.istore_n 3, 1) := dk_62 (dk_at dksX0_played_1 1 rfl rfl)
theorem dX0_played_26 : decode cX0_played 26 = .ok (.iload_n 3, 1) := dk_29 (dk_at dksX0_played_1 2 rfl rfl)
theorem dX0_played_27 : decode cX0_played 27 = .ok (.aload_n 2, 1) := dk_44 (dk_at dksX0_played_1 3 rfl rfl)
theorem dX0_played_28 : decode cX0_played 28 = .ok (.invokevirtual 277, 3) := dk_182 1 21 (dk_at dksX0_played_1 4 rfl rfl)
theorem dX0_played_31 : decode cX0_played 31 = .ok (.if_icmp .ge 36, 3) := dk_162 0 36 (dk_at dksX0_played_1 7 rfl rfl)
theorem dX0_played_34 : decode cX0_played 34 = .ok (.aload_n 0, 1) := dk_42 (dk_at dksX0_played_1 10 rfl rfl)
theorem dX0_played_35 : decode cX0_played 35 = .ok (.aload_n 2, 1) := dk_44 (dk_at dksX0_played_1 11 rfl rfl)
theorem dX0_played_36 : decode cX0_played 36 = .ok (.iload_n 3, 1) := dk_29 (dk_at dksX0_played_1 12 rfl rfl)
theorem dX0_played_37 : decode cX0_played 37 = .ok (.invokevirtual 282, 3) := dk_182 1 26 (dk_at dksX0_played_1 13 rfl rfl)
theorem dX0_played_40 : decode cX0_played 40 = .ok (.checkcast 232, 3) := dk_192 0 232 (dk_at dksX0_played_1 16 rfl rfl)
theorem dX0_played_43 : decode cX0_played 43 = .ok (.invokevirtual 286, 3) := dk_182 1 30 (dk_at dksX0_played_1 19 rfl rfl)
theorem dX0_played_46 : decode cX0_played 46 = .ok (.ifCond .ne 15, 3) := dk_154 0 15 (dk_at dksX0_played_2 0 rfl rfl)
theorem dX0_played_49 : decode cX0_played 49 = .ok (.aload_n 2, 1) := dk_44 (dk_at dksX0_played_2 3 rfl rfl)
theorem dX0_played_50 : decode cX0_played 50 = .ok (.iload_n 3, 1) := dk_29 (dk_at dksX0_played_2 4 rfl rfl)
theorem dX0_played_51 : decode cX0_played 51 = .ok (.invokevirtual 282, 3) := dk_182 1 26 (dk_at dksX0_played_2 5 rfl rfl)
theorem dX0_played_54 : decode cX0_played 54 = .ok (.checkcast 232, 3) := dk_192 0 232 (dk_at dksX0_played_2 8 rfl rfl)
theorem dX0_played_57 : decode cX0_played 57 = .ok (.invokevirtual 290, 3) := dk_182 1 34 (dk_at dksX0_played_2 11 rfl rfl)
theorem dX0_played_60 : decode cX0_played 60 = .ok (.ireturn, 1) := dk_172 (dk_at dksX0_played_2 14 rfl rfl)
theorem dX0_played_61 : decode cX0_played 61 = .ok (.iinc 3 1, 3) := dk_132 3 1 (dk_at dksX0_played_2 15 rfl rfl)
theorem dX0_played_64 : decode cX0_played 64 = .ok (.goto (-38), 3) := dk_167 255 218 (dk_at dksX0_played_2 18 rfl rfl)
theorem dX0_played_67 : decode cX0_played 67 = .ok (.iconst (-1), 1) := dk_2 (dk_at dksX0_played_2 21 rfl rfl)
theorem dX0_played_68 : decode cX0_played 68 = .ok (.ireturn, 1) := dk_172 (dk_at dksX0_played_2 22 rfl rfl)
abbrev cX0_does : ByteArray := prog_1_method_39_code
def yX0_does : MethodName := ⟨RX0, "does", "(LHookSwings$Doing;)Z"⟩
def dkwX0_does_6 : List UInt8 := [159, 0, 7, 4, 167, 0, 4, 3, 172]
abbrev dktX0_does_6 : List UInt8 := dkwX0_does_6 ++ []
def dkwX0_does_5 : List UInt8 := [43, 182, 0, 237, 182, 1, 8, 172, 42, 43, 182, 0, 237, 182, 1, 11, 172, 42, 182, 1, 14, 2]
abbrev dktX0_does_5 : List UInt8 := dkwX0_does_5 ++ dktX0_does_6
def dkwX0_does_4 : List UInt8 := [167, 0, 4, 3, 172, 42, 43, 182, 0, 237, 182, 1, 2, 172, 42, 43, 182, 0, 237, 182, 1, 5, 172, 42]
abbrev dktX0_does_4 : List UInt8 := dkwX0_does_4 ++ dktX0_does_5
def dkwX0_does_3 : List UInt8 := [2, 159, 0, 7, 4, 167, 0, 4, 3, 172, 42, 43, 182, 0, 237, 182, 0, 255, 2, 159, 0, 7, 4]
abbrev dktX0_does_3 : List UInt8 := dkwX0_does_3 ++ dktX0_does_4
def dkwX0_does_2 : List UInt8 := [42, 43, 182, 0, 237, 43, 182, 0, 240, 43, 182, 0, 243, 43, 182, 0, 246, 43, 182, 0, 249, 182, 0, 252]
abbrev dktX0_does_2 : List UInt8 := dkwX0_does_2 ++ dktX0_does_3
def dkwX0_does_1 : List UInt8 := [170, 0, 0, 0, 0, 0, 0, 128, 0, 0, 0, 205, 0, 0, 0, 210, 0, 0, 0, 40, 0, 0, 0, 74, 0, 0, 0, 92, 0, 0, 0, 101, 0, 0, 0, 110, 0, 0, 0, 119]
abbrev dktX0_does_1 : List UInt8 := dkwX0_does_1 ++ dktX0_does_2
def dkwX0_does_0 : List UInt8 := [43, 182, 0, 231]
abbrev dktX0_does_0 : List UInt8 := dkwX0_does_0 ++ dktX0_does_1
theorem dksX0_does_0 : cX0_does.data.toList.drop 0 = dktX0_does_0 := by decide +kernel
theorem dksX0_does_1 : cX0_does.data.toList.drop 4 = dktX0_does_1 := dk_seg dksX0_does_0 4 rfl rfl
theorem dksX0_does_2 : cX0_does.data.toList.drop 44 = dktX0_does_2 := dk_seg dksX0_does_1 40 rfl rfl
theorem dksX0_does_3 : cX0_does.data.toList.drop 68 = dktX0_does_3 := dk_seg dksX0_does_2 24 rfl rfl
theorem dksX0_does_4 : cX0_does.data.toList.drop 91 = dktX0_does_4 := dk_seg dksX0_does_3 23 rfl rfl
theorem dksX0_does_5 : cX0_does.data.toList.drop 115 = dktX0_does_5 := dk_seg dksX0_does_4 24 rfl rfl
theorem dksX0_does_6 : cX0_does.data.toList.drop 137 = dktX0_does_6 := dk_seg dksX0_does_5 22 rfl rfl
theorem dX0_does_0 : decode cX0_does 0 = .ok (.aload_n 1, 1) := dk_43 (dk_at dksX0_does_0 0 rfl rfl)
theorem dX0_does_1 : decode cX0_does 1 = .ok (.invokevirtual 231, 3) := dk_182 0 231 (dk_at dksX0_does_0 1 rfl rfl)
theorem dX0_does_4 : decode cX0_does 4 = .ok (.tableswitch 128 205 210 #[40, 74, 92, 101, 110, 119], 40) := by decide +kernel
theorem dX0_does_44 : decode cX0_does 44 = .ok (.aload_n 0, 1) := dk_42 (dk_at dksX0_does_2 0 rfl rfl)
theorem dX0_does_45 : decode cX0_does 45 = .ok (.aload_n 1, 1) := dk_43 (dk_at dksX0_does_2 1 rfl rfl)
theorem dX0_does_46 : decode cX0_does 46 = .ok (.invokevirtual 237, 3) := dk_182 0 237 (dk_at dksX0_does_2 2 rfl rfl)
theorem dX0_does_49 : decode cX0_does 49 = .ok (.aload_n 1, 1) := dk_43 (dk_at dksX0_does_2 5 rfl rfl)
theorem dX0_does_50 : decode cX0_does 50 = .ok (.invokevirtual 240, 3) := dk_182 0 240 (dk_at dksX0_does_2 6 rfl rfl)
theorem dX0_does_53 : decode cX0_does 53 = .ok (.aload_n 1, 1) := dk_43 (dk_at dksX0_does_2 9 rfl rfl)
theorem dX0_does_54 : decode cX0_does 54 = .ok (.invokevirtual 243, 3) := dk_182 0 243 (dk_at dksX0_does_2 10 rfl rfl)
theorem dX0_does_57 : decode cX0_does 57 = .ok (.aload_n 1, 1) := dk_43 (dk_at dksX0_does_2 13 rfl rfl)
theorem dX0_does_58 : decode cX0_does 58 = .ok (.invokevirtual 246, 3) := dk_182 0 246 (dk_at dksX0_does_2 14 rfl rfl)
theorem dX0_does_61 : decode cX0_does 61 = .ok (.aload_n 1, 1) := dk_43 (dk_at dksX0_does_2 17 rfl rfl)
theorem dX0_does_62 : decode cX0_does 62 = .ok (.invokevirtual 249, 3) := dk_182 0 249 (dk_at dksX0_does_2 18 rfl rfl)
theorem dX0_does_65 : decode cX0_does 65 = .ok (.invokevirtual 252, 3) := dk_182 0 252 (dk_at dksX0_does_2 21 rfl rfl)
theorem dX0_does_68 : decode cX0_does 68 = .ok (.iconst (-1), 1) := dk_2 (dk_at dksX0_does_3 0 rfl rfl)
theorem dX0_does_69 : decode cX0_does 69 = .ok (.if_icmp .eq 7, 3) := dk_159 0 7 (dk_at dksX0_does_3 1 rfl rfl)
theorem dX0_does_72 : decode cX0_does 72 = .ok (.iconst 1, 1) := dk_4 (dk_at dksX0_does_3 4 rfl rfl)
theorem dX0_does_73 : decode cX0_does 73 = .ok (.goto 4, 3) := dk_167 0 4 (dk_at dksX0_does_3 5 rfl rfl)
theorem dX0_does_76 : decode cX0_does 76 = .ok (.iconst 0, 1) := dk_3 (dk_at dksX0_does_3 8 rfl rfl)
theorem dX0_does_77 : decode cX0_does 77 = .ok (.ireturn, 1) := dk_172 (dk_at dksX0_does_3 9 rfl rfl)
theorem dX0_does_78 : decode cX0_does 78 = .ok (.aload_n 0, 1) := dk_42 (dk_at dksX0_does_3 10 rfl rfl)
theorem dX0_does_79 : decode cX0_does 79 = .ok (.aload_n 1, 1) := dk_43 (dk_at dksX0_does_3 11 rfl rfl)
theorem dX0_does_80 : decode cX0_does 80 = .ok (.invokevirtual 237, 3) := dk_182 0 237 (dk_at dksX0_does_3 12 rfl rfl)
theorem dX0_does_83 : decode cX0_does 83 = .ok (.invokevirtual 255, 3) := dk_182 0 255 (dk_at dksX0_does_3 15 rfl rfl)
theorem dX0_does_86 : decode cX0_does 86 = .ok (.iconst (-1), 1) := dk_2 (dk_at dksX0_does_3 18 rfl rfl)
theorem dX0_does_87 : decode cX0_does 87 = .ok (.if_icmp .eq 7, 3) := dk_159 0 7 (dk_at dksX0_does_3 19 rfl rfl)
theorem dX0_does_90 : decode cX0_does 90 = .ok (.iconst 1, 1) := dk_4 (dk_at dksX0_does_3 22 rfl rfl)
theorem dX0_does_91 : decode cX0_does 91 = .ok (.goto 4, 3) := dk_167 0 4 (dk_at dksX0_does_4 0 rfl rfl)
theorem dX0_does_94 : decode cX0_does 94 = .ok (.iconst 0, 1) := dk_3 (dk_at dksX0_does_4 3 rfl rfl)
theorem dX0_does_95 : decode cX0_does 95 = .ok (.ireturn, 1) := dk_172 (dk_at dksX0_does_4 4 rfl rfl)
theorem dX0_does_96 : decode cX0_does 96 = .ok (.aload_n 0, 1) := dk_42 (dk_at dksX0_does_4 5 rfl rfl)
theorem dX0_does_97 : decode cX0_does 97 = .ok (.aload_n 1, 1) := dk_43 (dk_at dksX0_does_4 6 rfl rfl)
theorem dX0_does_98 : decode cX0_does 98 = .ok (.invokevirtual 237, 3) := dk_182 0 237 (dk_at dksX0_does_4 7 rfl rfl)
theorem dX0_does_101 : decode cX0_does 101 = .ok (.invokevirtual 258, 3) := dk_182 1 2 (dk_at dksX0_does_4 10 rfl rfl)
theorem dX0_does_104 : decode cX0_does 104 = .ok (.ireturn, 1) := dk_172 (dk_at dksX0_does_4 13 rfl rfl)
theorem dX0_does_105 : decode cX0_does 105 = .ok (.aload_n 0, 1) := dk_42 (dk_at dksX0_does_4 14 rfl rfl)
theorem dX0_does_106 : decode cX0_does 106 = .ok (.aload_n 1, 1) := dk_43 (dk_at dksX0_does_4 15 rfl rfl)
theorem dX0_does_107 : decode cX0_does 107 = .ok (.invokevirtual 237, 3) := dk_182 0 237 (dk_at dksX0_does_4 16 rfl rfl)
theorem dX0_does_110 : decode cX0_does 110 = .ok (.invokevirtual 261, 3) := dk_182 1 5 (dk_at dksX0_does_4 19 rfl rfl)
theorem dX0_does_113 : decode cX0_does 113 = .ok (.ireturn, 1) := dk_172 (dk_at dksX0_does_4 22 rfl rfl)
theorem dX0_does_114 : decode cX0_does 114 = .ok (.aload_n 0, 1) := dk_42 (dk_at dksX0_does_4 23 rfl rfl)
theorem dX0_does_115 : decode cX0_does 115 = .ok (.aload_n 1, 1) := dk_43 (dk_at dksX0_does_5 0 rfl rfl)
theorem dX0_does_116 : decode cX0_does 116 = .ok (.invokevirtual 237, 3) := dk_182 0 237 (dk_at dksX0_does_5 1 rfl rfl)
theorem dX0_does_119 : decode cX0_does 119 = .ok (.invokevirtual 264, 3) := dk_182 1 8 (dk_at dksX0_does_5 4 rfl rfl)
theorem dX0_does_122 : decode cX0_does 122 = .ok (.ireturn, 1) := dk_172 (dk_at dksX0_does_5 7 rfl rfl)
theorem dX0_does_123 : decode cX0_does 123 = .ok (.aload_n 0, 1) := dk_42 (dk_at dksX0_does_5 8 rfl rfl)
theorem dX0_does_124 : decode cX0_does 124 = .ok (.aload_n 1, 1) := dk_43 (dk_at dksX0_does_5 9 rfl rfl)
theorem dX0_does_125 : decode cX0_does 125 = .ok (.invokevirtual 237, 3) := dk_182 0 237 (dk_at dksX0_does_5 10 rfl rfl)
theorem dX0_does_128 : decode cX0_does 128 = .ok (.invokevirtual 267, 3) := dk_182 1 11 (dk_at dksX0_does_5 13 rfl rfl)
theorem dX0_does_131 : decode cX0_does 131 = .ok (.ireturn, 1) := dk_172 (dk_at dksX0_does_5 16 rfl rfl)
theorem dX0_does_132 : decode cX0_does 132 = .ok (.aload_n 0, 1) := dk_42 (dk_at dksX0_does_5 17 rfl rfl)
theorem dX0_does_133 : decode cX0_does 133 = .ok (.invokevirtual 270, 3) := dk_182 1 14 (dk_at dksX0_does_5 18 rfl rfl)
theorem dX0_does_136 : decode cX0_does 136 = .ok (.iconst (-1), 1) := dk_2 (dk_at dksX0_does_5 21 rfl rfl)
theorem dX0_does_137 : decode cX0_does 137 = .ok (.if_icmp .eq 7, 3) := dk_159 0 7 (dk_at dksX0_does_6 0 rfl rfl)
theorem dX0_does_140 : decode cX0_does 140 = .ok (.iconst 1, 1) := dk_4 (dk_at dksX0_does_6 3 rfl rfl)
theorem dX0_does_141 : decode cX0_does 141 = .ok (.goto 4, 3) := dk_167 0 4 (dk_at dksX0_does_6 4 rfl rfl)
theorem dX0_does_144 : decode cX0_does 144 = .ok (.iconst 0, 1) := dk_3 (dk_at dksX0_does_6 7 rfl rfl)
theorem dX0_does_145 : decode cX0_does 145 = .ok (.ireturn, 1) := dk_172 (dk_at dksX0_does_6 8 rfl rfl)
abbrev cX0_runs : ByteArray := prog_1_method_38_code
def yX0_runs : MethodName := ⟨RX0, "runs", "(I)Z"⟩
def dkwX0_runs_1 : List UInt8 := [4, 172]
abbrev dktX0_runs_1 : List UInt8 := dkwX0_runs_1 ++ []
def dkwX0_runs_0 : List UInt8 := [3, 61, 28, 27, 162, 0, 20, 42, 4, 182, 0, 228, 2, 160, 0, 5, 3, 172, 132, 2, 1, 167, 255, 237]
abbrev dktX0_runs_0 : List UInt8 := dkwX0_runs_0 ++ dktX0_runs_1
theorem dksX0_runs_0 : cX0_runs.data.toList.drop 0 = dktX0_runs_0 := by decide +kernel
theorem dksX0_runs_1 : cX0_runs.data.toList.drop 24 = dktX0_runs_1 := dk_seg dksX0_runs_0 24 rfl rfl
theorem dX0_runs_0 : decode cX0_runs 0 = .ok (.iconst 0, 1) := dk_3 (dk_at dksX0_runs_0 0 rfl rfl)
theorem dX0_runs_1 : decode cX0_runs 1 = .ok (.istore_n 2, 1) := dk_61 (dk_at dksX0_runs_0 1 rfl rfl)
theorem dX0_runs_2 : decode cX0_runs 2 = .ok (.iload_n 2, 1) := dk_28 (dk_at dksX0_runs_0 2 rfl rfl)
theorem dX0_runs_3 : decode cX0_runs 3 = .ok (.iload_n 1, 1) := dk_27 (dk_at dksX0_runs_0 3 rfl rfl)
theorem dX0_runs_4 : decode cX0_runs 4 = .ok (.if_icmp .ge 20, 3) := dk_162 0 20 (dk_at dksX0_runs_0 4 rfl rfl)
theorem dX0_runs_7 : decode cX0_runs 7 = .ok (.aload_n 0, 1) := dk_42 (dk_at dksX0_runs_0 7 rfl rfl)
theorem dX0_runs_8 : decode cX0_runs 8 = .ok (.iconst 1, 1) := dk_4 (dk_at dksX0_runs_0 8 rfl rfl)
theorem dX0_runs_9 : decode cX0_runs 9 = .ok (.invokevirtual 228, 3) := dk_182 0 228 (dk_at dksX0_runs_0 9 rfl rfl)
theorem dX0_runs_12 : decode cX0_runs 12 = .ok (.iconst (-1), 1) := dk_2 (dk_at dksX0_runs_0 12 rfl rfl)
theorem dX0_runs_13 : decode cX0_runs 13 = .ok (.if_icmp .ne 5, 3) := dk_160 0 5 (dk_at dksX0_runs_0 13 rfl rfl)
theorem dX0_runs_16 : decode cX0_runs 16 = .ok (.iconst 0, 1) := dk_3 (dk_at dksX0_runs_0 16 rfl rfl)
theorem dX0_runs_17 : decode cX0_runs 17 = .ok (.ireturn, 1) := dk_172 (dk_at dksX0_runs_0 17 rfl rfl)
theorem dX0_runs_18 : decode cX0_runs 18 = .ok (.iinc 2 1, 3) := dk_132 2 1 (dk_at dksX0_runs_0 18 rfl rfl)
theorem dX0_runs_21 : decode cX0_runs 21 = .ok (.goto (-19), 3) := dk_167 255 237 (dk_at dksX0_runs_0 21 rfl rfl)
theorem dX0_runs_24 : decode cX0_runs 24 = .ok (.iconst 1, 1) := dk_4 (dk_at dksX0_runs_1 0 rfl rfl)
theorem dX0_runs_25 : decode cX0_runs 25 = .ok (.ireturn, 1) := dk_172 (dk_at dksX0_runs_1 1 rfl rfl)
abbrev cX0_storm : ByteArray := prog_1_method_41_code
def yX0_storm : MethodName := ⟨RX0, "storm", "(II)I"⟩
def dkwX0_storm_6 : List UInt8 := [132, 3, 1, 167, 255, 180, 42, 180, 0, 21, 180, 0, 176, 3, 46, 172]
abbrev dktX0_storm_6 : List UInt8 := dkwX0_storm_6 ++ []
def dkwX0_storm_5 : List UInt8 := [180, 0, 176, 16, 9, 46, 6, 112, 4, 100, 182, 0, 203, 42, 180, 0, 21, 180, 0, 176, 184, 0, 194]
abbrev dktX0_storm_5 : List UInt8 := dkwX0_storm_5 ++ dktX0_storm_6
def dkwX0_storm_4 : List UInt8 := [112, 79, 42, 180, 0, 21, 180, 0, 176, 184, 0, 194, 42, 42, 180, 0, 21, 180, 0, 176, 42, 180, 0, 21]
abbrev dktX0_storm_4 : List UInt8 := dkwX0_storm_4 ++ dktX0_storm_5
def dkwX0_storm_3 : List UInt8 := [162, 0, 77, 42, 180, 0, 21, 180, 0, 176, 16, 6, 42, 180, 0, 21, 180, 0, 176, 16, 9, 46, 16, 10]
abbrev dktX0_storm_3 : List UInt8 := dkwX0_storm_3 ++ dktX0_storm_4
def dkwX0_storm_2 : List UInt8 := [182, 0, 200, 42, 180, 0, 21, 180, 0, 176, 16, 9, 27, 6, 104, 16, 59, 96, 79, 3, 62, 29, 28]
abbrev dktX0_storm_2 : List UInt8 := dkwX0_storm_2 ++ dktX0_storm_3
def dkwX0_storm_1 : List UInt8 := [180, 0, 21, 180, 0, 176, 16, 8, 46, 28, 96, 17, 39, 15, 164, 0, 5, 2, 172, 42, 180, 0, 21]
abbrev dktX0_storm_1 : List UInt8 := dkwX0_storm_1 ++ dktX0_storm_2
def dkwX0_storm_0 : List UInt8 := [27, 3, 17, 39, 15, 184, 0, 82, 153, 0, 31, 28, 4, 16, 40, 184, 0, 82, 153, 0, 21, 42]
abbrev dktX0_storm_0 : List UInt8 := dkwX0_storm_0 ++ dktX0_storm_1
theorem dksX0_storm_0 : cX0_storm.data.toList.drop 0 = dktX0_storm_0 := by decide +kernel
theorem dksX0_storm_1 : cX0_storm.data.toList.drop 22 = dktX0_storm_1 := dk_seg dksX0_storm_0 22 rfl rfl
theorem dksX0_storm_2 : cX0_storm.data.toList.drop 45 = dktX0_storm_2 := dk_seg dksX0_storm_1 23 rfl rfl
theorem dksX0_storm_3 : cX0_storm.data.toList.drop 68 = dktX0_storm_3 := dk_seg dksX0_storm_2 23 rfl rfl
theorem dksX0_storm_4 : cX0_storm.data.toList.drop 92 = dktX0_storm_4 := dk_seg dksX0_storm_3 24 rfl rfl
theorem dksX0_storm_5 : cX0_storm.data.toList.drop 116 = dktX0_storm_5 := dk_seg dksX0_storm_4 24 rfl rfl
theorem dksX0_storm_6 : cX0_storm.data.toList.drop 139 = dktX0_storm_6 := dk_seg dksX0_storm_5 23 rfl rfl
theorem dX0_storm_0 : decode cX0_storm 0 = .ok (.iload_n 1, 1) := dk_27 (dk_at dksX0_storm_0 0 rfl rfl)
theorem dX0_storm_1 : decode cX0_storm 1 = .ok (.iconst 0, 1) := dk_3 (dk_at dksX0_storm_0 1 rfl rfl)
theorem dX0_storm_2 : decode cX0_storm 2 = .ok (.sipush 9999, 3) := dk_17 39 15 (dk_at dksX0_storm_0 2 rfl rfl)
theorem dX0_storm_5 : decode cX0_storm 5 = .ok (.invokestatic 82, 3) := dk_184 0 82 (dk_at dksX0_storm_0 5 rfl rfl)
theorem dX0_storm_8 : decode cX0_storm 8 = .ok (.ifCond .eq 31, 3) := dk_153 0 31 (dk_at dksX0_storm_0 8 rfl rfl)
theorem dX0_storm_11 : decode cX0_storm 11 = .ok (.iload_n 2, 1) := dk_28 (dk_at dksX0_storm_0 11 rfl rfl)
theorem dX0_storm_12 : decode cX0_storm 12 = .ok (.iconst 1, 1) := dk_4 (dk_at dksX0_storm_0 12 rfl rfl)
theorem dX0_storm_13 : decode cX0_storm 13 = .ok (.bipush 40, 2) := dk_16 40 (dk_at dksX0_storm_0 13 rfl rfl)
theorem dX0_storm_15 : decode cX0_storm 15 = .ok (.invokestatic 82, 3) := dk_184 0 82 (dk_at dksX0_storm_0 15 rfl rfl)
theorem dX0_storm_18 : decode cX0_storm 18 = .ok (.ifCond .eq 21, 3) := dk_153 0 21 (dk_at dksX0_storm_0 18 rfl rfl)
theorem dX0_storm_21 : decode cX0_storm 21 = .ok (.aload_n 0, 1) := dk_42 (dk_at dksX0_storm_0 21 rfl rfl)
theorem dX0_storm_22 : decode cX0_storm 22 = .ok (.getfield 21, 3) := dk_180 0 21 (dk_at dksX0_storm_1 0 rfl rfl)
theorem dX0_storm_25 : decode cX0_storm 25 = .ok (.getfield 176, 3) := dk_180 0 176 (dk_at dksX0_storm_1 3 rfl rfl)
theorem dX0_storm_28 : decode cX0_storm 28 = .ok (.bipush 8, 2) := dk_16 8 (dk_at dksX0_storm_1 6 rfl rfl)
theorem dX0_storm_30 : decode cX0_storm 30 = .ok (.iaload, 1) := dk_46 (dk_at dksX0_storm_1 8 rfl rfl)
theorem dX0_storm_31 : decode cX0_storm 31 = .ok (.iload_n 2, 1) := dk_28 (dk_at dksX0_storm_1 9 rfl rfl)
theorem dX0_storm_32 : decode cX0_storm 32 = .ok (.iadd, 1) := dk_96 (dk_at dksX0_storm_1 10 rfl rfl)
theorem dX0_storm_33 : decode cX0_storm 33 = .ok (.sipush 9999, 3) := dk_17 39 15 (dk_at dksX0_storm_1 11 rfl rfl)
theorem dX0_storm_36 : decode cX0_storm 36 = .ok (.if_icmp .le 5, 3) := dk_164 0 5 (dk_at dksX0_storm_1 14 rfl rfl)
theorem dX0_storm_39 : decode cX0_storm 39 = .ok (.iconst (-1), 1) := dk_2 (dk_at dksX0_storm_1 17 rfl rfl)
theorem dX0_storm_40 : decode cX0_storm 40 = .ok (.ireturn, 1) := dk_172 (dk_at dksX0_storm_1 18 rfl rfl)
theorem dX0_storm_41 : decode cX0_storm 41 = .ok (.aload_n 0, 1) := dk_42 (dk_at dksX0_storm_1 19 rfl rfl)
theorem dX0_storm_42 : decode cX0_storm 42 = .ok (.getfield 21, 3) := dk_180 0 21 (dk_at dksX0_storm_1 20 rfl rfl)
theorem dX0_storm_45 : decode cX0_storm 45 = .ok (.invokevirtual 200, 3) := dk_182 0 200 (dk_at dksX0_storm_2 0 rfl rfl)
theorem dX0_storm_48 : decode cX0_storm 48 = .ok (.aload_n 0, 1) := dk_42 (dk_at dksX0_storm_2 3 rfl rfl)
theorem dX0_storm_49 : decode cX0_storm 49 = .ok (.getfield 21, 3) := dk_180 0 21 (dk_at dksX0_storm_2 4 rfl rfl)
theorem dX0_storm_52 : decode cX0_storm 52 = .ok (.getfield 176, 3) := dk_180 0 176 (dk_at dksX0_storm_2 7 rfl rfl)
theorem dX0_storm_55 : decode cX0_storm 55 = .ok (.bipush 9, 2) := dk_16 9 (dk_at dksX0_storm_2 10 rfl rfl)
theorem dX0_storm_57 : decode cX0_storm 57 = .ok (.iload_n 1, 1) := dk_27 (dk_at dksX0_storm_2 12 rfl rfl)
theorem dX0_storm_58 : decode cX0_storm 58 = .ok (.iconst 3, 1) := dk_6 (dk_at dksX0_storm_2 13 rfl rfl)
theorem dX0_storm_59 : decode cX0_storm 59 = .ok (.imul, 1) := dk_104 (dk_at dksX0_storm_2 14 rfl rfl)
theorem dX0_storm_60 : decode cX0_storm 60 = .ok (.bipush 59, 2) := dk_16 59 (dk_at dksX0_storm_2 15 rfl rfl)
theorem dX0_storm_62 : decode cX0_storm 62 = .ok (.iadd, 1) := dk_96 (dk_at dksX0_storm_2 17 rfl rfl)
theorem dX0_storm_63 : decode cX0_storm 63 = .ok (.iastore, 1) := dk_79 (dk_at dksX0_storm_2 18 rfl rfl)
theorem dX0_storm_64 : decode cX0_storm 64 = .ok (.iconst 0, 1) := dk_3 (dk_at dksX0_storm_2 19 rfl rfl)
theorem dX0_storm_65 : decode cX0_storm 65 = .ok (.istore_n 3, 1) := dk_62 (dk_at dksX0_storm_2 20 rfl rfl)
theorem dX0_storm_66 : decode cX0_storm 66 = .ok (.iload_n 3, 1) := dk_29 (dk_at dksX0_storm_2 21 rfl rfl)
theorem dX0_storm_67 : decode cX0_storm 67 = .ok (.iload_n 2, 1) := dk_28 (dk_at dksX0_storm_2 22 rfl rfl)
theorem dX0_storm_68 : decode cX0_storm 68 = .ok (.if_icmp .ge 77, 3) := dk_162 0 77 (dk_at dksX0_storm_3 0 rfl rfl)
theorem dX0_storm_71 : decode cX0_storm 71 = .ok (.aload_n 0, 1) := dk_42 (dk_at dksX0_storm_3 3 rfl rfl)
theorem dX0_storm_72 : decode cX0_storm 72 = .ok (.getfield 21, 3) := dk_180 0 21 (dk_at dksX0_storm_3 4 rfl rfl)
theorem dX0_storm_75 : decode cX0_storm 75 = .ok (.getfield 176, 3) := dk_180 0 176 (dk_at dksX0_storm_3 7 rfl rfl)
theorem dX0_storm_78 : decode cX0_storm 78 = .ok (.bipush 6, 2) := dk_16 6 (dk_at dksX0_storm_3 10 rfl rfl)
theorem dX0_storm_80 : decode cX0_storm 80 = .ok (.aload_n 0, 1) := dk_42 (dk_at dksX0_storm_3 12 rfl rfl)
theorem dX0_storm_81 : decode cX0_storm 81 = .ok (.getfield 21, 3) := dk_180 0 21 (dk_at dksX0_storm_3 13 rfl rfl)
theorem dX0_storm_84 : decode cX0_storm 84 = .ok (.getfield 176, 3) := dk_180 0 176 (dk_at dksX0_storm_3 16 rfl rfl)
theorem dX0_storm_87 : decode cX0_storm 87 = .ok (.bipush 9, 2) := dk_16 9 (dk_at dksX0_storm_3 19 rfl rfl)
theorem dX0_storm_89 : decode cX0_storm 89 = .ok (.iaload, 1) := dk_46 (dk_at dksX0_storm_3 21 rfl rfl)
theorem dX0_storm_90 : decode cX0_storm 90 = .ok (.bipush 10, 2) := dk_16 10 (dk_at dksX0_storm_3 22 rfl rfl)
theorem dX0_storm_92 : decode cX0_storm 92 = .ok (.irem, 1) := dk_112 (dk_at dksX0_storm_4 0 rfl rfl)
theorem dX0_storm_93 : decode cX0_storm 93 = .ok (.iastore, 1) := dk_79 (dk_at dksX0_storm_4 1 rfl rfl)
theorem dX0_storm_94 : decode cX0_storm 94 = .ok (.aload_n 0, 1) := dk_42 (dk_at dksX0_storm_4 2 rfl rfl)
theorem dX0_storm_95 : decode cX0_storm 95 = .ok (.getfield 21, 3) := dk_180 0 21 (dk_at dksX0_storm_4 3 rfl rfl)
theorem dX0_storm_98 : decode cX0_storm 98 = .ok (.getfield 176, 3) := dk_180 0 176 (dk_at dksX0_storm_4 6 rfl rfl)
theorem dX0_storm_101 : decode cX0_storm 101 = .ok (.invokestatic 194, 3) := dk_184 0 194 (dk_at dksX0_storm_4 9 rfl rfl)
theorem dX0_storm_104 : decode cX0_storm 104 = .ok (.aload_n 0, 1) := dk_42 (dk_at dksX0_storm_4 12 rfl rfl)
theorem dX0_storm_105 : decode cX0_storm 105 = .ok (.aload_n 0, 1) := dk_42 (dk_at dksX0_storm_4 13 rfl rfl)
theorem dX0_storm_106 : decode cX0_storm 106 = .ok (.getfield 21, 3) := dk_180 0 21 (dk_at dksX0_storm_4 14 rfl rfl)
theorem dX0_storm_109 : decode cX0_storm 109 = .ok (.getfield 176, 3) := dk_180 0 176 (dk_at dksX0_storm_4 17 rfl rfl)
theorem dX0_storm_112 : decode cX0_storm 112 = .ok (.aload_n 0, 1) := dk_42 (dk_at dksX0_storm_4 20 rfl rfl)
theorem dX0_storm_113 : decode cX0_storm 113 = .ok (.getfield 21, 3) := dk_180 0 21 (dk_at dksX0_storm_4 21 rfl rfl)
theorem dX0_storm_116 : decode cX0_storm 116 = .ok (.getfield 176, 3) := dk_180 0 176 (dk_at dksX0_storm_5 0 rfl rfl)
theorem dX0_storm_119 : decode cX0_storm 119 = .ok (.bipush 9, 2) := dk_16 9 (dk_at dksX0_storm_5 3 rfl rfl)
theorem dX0_storm_121 : decode cX0_storm 121 = .ok (.iaload, 1) := dk_46 (dk_at dksX0_storm_5 5 rfl rfl)
theorem dX0_storm_122 : decode cX0_storm 122 = .ok (.iconst 3, 1) := dk_6 (dk_at dksX0_storm_5 6 rfl rfl)
theorem dX0_storm_123 : decode cX0_storm 123 = .ok (.irem, 1) := dk_112 (dk_at dksX0_storm_5 7 rfl rfl)
theorem dX0_storm_124 : decode cX0_storm 124 = .ok (.iconst 1, 1) := dk_4 (dk_at dksX0_storm_5 8 rfl rfl)
theorem dX0_storm_125 : decode cX0_storm 125 = .ok (.isub, 1) := dk_100 (dk_at dksX0_storm_5 9 rfl rfl)
theorem dX0_storm_126 : decode cX0_storm 126 = .ok (.invokevirtual 203, 3) := dk_182 0 203 (dk_at dksX0_storm_5 10 rfl rfl)
theorem dX0_storm_129 : decode cX0_storm 129 = .ok (.aload_n 0, 1) := dk_42 (dk_at dksX0_storm_5 13 rfl rfl)
theorem dX0_storm_130 : decode cX0_storm 130 = .ok (.getfield 21, 3) := dk_180 0 21 (dk_at dksX0_storm_5 14 rfl rfl)
theorem dX0_storm_133 : decode cX0_storm 133 = .ok (.getfield 176, 3) := dk_180 0 176 (dk_at dksX0_storm_5 17 rfl rfl)
theorem dX0_storm_136 : decode cX0_storm 136 = .ok (.invokestatic 194, 3) := dk_184 0 194 (dk_at dksX0_storm_5 20 rfl rfl)
theorem dX0_storm_139 : decode cX0_storm 139 = .ok (.iinc 3 1, 3) := dk_132 3 1 (dk_at dksX0_storm_6 0 rfl rfl)
theorem dX0_storm_142 : decode cX0_storm 142 = .ok (.goto (-76), 3) := dk_167 255 180 (dk_at dksX0_storm_6 3 rfl rfl)
theorem dX0_storm_145 : decode cX0_storm 145 = .ok (.aload_n 0, 1) := dk_42 (dk_at dksX0_storm_6 6 rfl rfl)
theorem dX0_storm_146 : decode cX0_storm 146 = .ok (.getfield 21, 3) := dk_180 0 21 (dk_at dksX0_storm_6 7 rfl rfl)
theorem dX0_storm_149 : decode cX0_storm 149 = .ok (.getfield 176, 3) := dk_180 0 176 (dk_at dksX0_storm_6 10 rfl rfl)
theorem dX0_storm_152 : decode cX0_storm 152 = .ok (.iconst 0, 1) := dk_3 (dk_at dksX0_storm_6 13 rfl rfl)
theorem dX0_storm_153 : decode cX0_storm 153 = .ok (.iaload, 1) := dk_46 (dk_at dksX0_storm_6 14 rfl rfl)
theorem dX0_storm_154 : decode cX0_storm 154 = .ok (.ireturn, 1) := dk_172 (dk_at dksX0_storm_6 15 rfl rfl)
abbrev cX0_undo : ByteArray := prog_1_method_42_code
def yX0_undo : MethodName := ⟨RX0, "undo", "()I"⟩
def dkwX0_undo_2 : List UInt8 := [180, 0, 176, 184, 0, 89, 42, 180, 0, 21, 180, 0, 79, 7, 46, 172]
abbrev dktX0_undo_2 : List UInt8 := dkwX0_undo_2 ++ []
def dkwX0_undo_1 : List UInt8 := [4, 100, 79, 42, 180, 0, 21, 180, 1, 37, 42, 180, 0, 21, 180, 0, 79, 7, 46, 50, 42, 180, 0, 21]
abbrev dktX0_undo_1 : List UInt8 := dkwX0_undo_1 ++ dktX0_undo_2
def dkwX0_undo_0 : List UInt8 := [42, 180, 0, 21, 180, 0, 79, 7, 46, 154, 0, 5, 2, 172, 42, 180, 0, 21, 180, 0, 79, 7, 92, 46]
abbrev dktX0_undo_0 : List UInt8 := dkwX0_undo_0 ++ dktX0_undo_1
theorem dksX0_undo_0 : cX0_undo.data.toList.drop 0 = dktX0_undo_0 := by decide +kernel
theorem dksX0_undo_1 : cX0_undo.data.toList.drop 24 = dktX0_undo_1 := dk_seg dksX0_undo_0 24 rfl rfl
theorem dksX0_undo_2 : cX0_undo.data.toList.drop 48 = dktX0_undo_2 := dk_seg dksX0_undo_1 24 rfl rfl
theorem dX0_undo_0 : decode cX0_undo 0 = .ok (.aload_n 0, 1) := dk_42 (dk_at dksX0_undo_0 0 rfl rfl)
theorem dX0_undo_1 : decode cX0_undo 1 = .ok (.getfield 21, 3) := dk_180 0 21 (dk_at dksX0_undo_0 1 rfl rfl)
theorem dX0_undo_4 : decode cX0_undo 4 = .ok (.getfield 79, 3) := dk_180 0 79 (dk_at dksX0_undo_0 4 rfl rfl)
theorem dX0_undo_7 : decode cX0_undo 7 = .ok (.iconst 4, 1) := dk_7 (dk_at dksX0_undo_0 7 rfl rfl)
theorem dX0_undo_8 : decode cX0_undo 8 = .ok (.iaload, 1) := dk_46 (dk_at dksX0_undo_0 8 rfl rfl)
theorem dX0_undo_9 : decode cX0_undo 9 = .ok (.ifCond .ne 5, 3) := dk_154 0 5 (dk_at dksX0_undo_0 9 rfl rfl)
theorem dX0_undo_12 : decode cX0_undo 12 = .ok (.iconst (-1), 1) := dk_2 (dk_at dksX0_undo_0 12 rfl rfl)
theorem dX0_undo_13 : decode cX0_undo 13 = .ok (.ireturn, 1) := dk_172 (dk_at dksX0_undo_0 13 rfl rfl)
theorem dX0_undo_14 : decode cX0_undo 14 = .ok (.aload_n 0, 1) := dk_42 (dk_at dksX0_undo_0 14 rfl rfl)
theorem dX0_undo_15 : decode cX0_undo 15 = .ok (.getfield 21, 3) := dk_180 0 21 (dk_at dksX0_undo_0 15 rfl rfl)
theorem dX0_undo_18 : decode cX0_undo 18 = .ok (.getfield 79, 3) := dk_180 0 79 (dk_at dksX0_undo_0 18 rfl rfl)
theorem dX0_undo_21 : decode cX0_undo 21 = .ok (.iconst 4, 1) := dk_7 (dk_at dksX0_undo_0 21 rfl rfl)
theorem dX0_undo_22 : decode cX0_undo 22 = .ok (.dup2, 1) := dk_92 (dk_at dksX0_undo_0 22 rfl rfl)
theorem dX0_undo_23 : decode cX0_undo 23 = .ok (.iaload, 1) := dk_46 (dk_at dksX0_undo_0 23 rfl rfl)
theorem dX0_undo_24 : decode cX0_undo 24 = .ok (.iconst 1, 1) := dk_4 (dk_at dksX0_undo_1 0 rfl rfl)
theorem dX0_undo_25 : decode cX0_undo 25 = .ok (.isub, 1) := dk_100 (dk_at dksX0_undo_1 1 rfl rfl)
theorem dX0_undo_26 : decode cX0_undo 26 = .ok (.iastore, 1) := dk_79 (dk_at dksX0_undo_1 2 rfl rfl)
theorem dX0_undo_27 : decode cX0_undo 27 = .ok (.aload_n 0, 1) := dk_42 (dk_at dksX0_undo_1 3 rfl rfl)
theorem dX0_undo_28 : decode cX0_undo 28 = .ok (.getfield 21, 3) := dk_180 0 21 (dk_at dksX0_undo_1 4 rfl rfl)
theorem dX0_undo_31 : decode cX0_undo 31 = .ok (.getfield 293, 3) := dk_180 1 37 (dk_at dksX0_undo_1 7 rfl rfl)
theorem dX0_undo_34 : decode cX0_undo 34 = .ok (.aload_n 0, 1) := dk_42 (dk_at dksX0_undo_1 10 rfl rfl)
theorem dX0_undo_35 : decode cX0_undo 35 = .ok (.getfield 21, 3) := dk_180 0 21 (dk_at dksX0_undo_1 11 rfl rfl)
theorem dX0_undo_38 : decode cX0_undo 38 = .ok (.getfield 79, 3) := dk_180 0 79 (dk_at dksX0_undo_1 14 rfl rfl)
theorem dX0_undo_41 : decode cX0_undo 41 = .ok (.iconst 4, 1) := dk_7 (dk_at dksX0_undo_1 17 rfl rfl)
theorem dX0_undo_42 : decode cX0_undo 42 = .ok (.iaload, 1) := dk_46 (dk_at dksX0_undo_1 18 rfl rfl)
theorem dX0_undo_43 : decode cX0_undo 43 = .ok (.aaload, 1) := dk_50 (dk_at dksX0_undo_1 19 rfl rfl)
theorem dX0_undo_44 : decode cX0_undo 44 = .ok (.aload_n 0, 1) := dk_42 (dk_at dksX0_undo_1 20 rfl rfl)
theorem dX0_undo_45 : decode cX0_undo 45 = .ok (.getfield 21, 3) := dk_180 0 21 (dk_at dksX0_undo_1 21 rfl rfl)
theorem dX0_undo_48 : decode cX0_undo 48 = .ok (.getfield 176, 3) := dk_180 0 176 (dk_at dksX0_undo_2 0 rfl rfl)
theorem dX0_undo_51 : decode cX0_undo 51 = .ok (.invokestatic 89, 3) := dk_184 0 89 (dk_at dksX0_undo_2 3 rfl rfl)
theorem dX0_undo_54 : decode cX0_undo 54 = .ok (.aload_n 0, 1) := dk_42 (dk_at dksX0_undo_2 6 rfl rfl)
theorem dX0_undo_55 : decode cX0_undo 55 = .ok (.getfield 21, 3) := dk_180 0 21 (dk_at dksX0_undo_2 7 rfl rfl)
theorem dX0_undo_58 : decode cX0_undo 58 = .ok (.getfield 79, 3) := dk_180 0 79 (dk_at dksX0_undo_2 10 rfl rfl)
theorem dX0_undo_61 : decode cX0_undo 61 = .ok (.iconst 4, 1) := dk_7 (dk_at dksX0_undo_2 13 rfl rfl)
theorem dX0_undo_62 : decode cX0_undo 62 = .ok (.iaload, 1) := dk_46 (dk_at dksX0_undo_2 14 rfl rfl)
theorem dX0_undo_63 : decode cX0_undo 63 = .ok (.ireturn, 1) := dk_172 (dk_at dksX0_undo_2 15 rfl rfl)
abbrev cX0_jib : ByteArray := prog_1_method_43_code
def yX0_jib : MethodName := ⟨RX0, "jib", "(I)I"⟩
def dkwX0_jib_5 : List UInt8 := [182, 0, 207, 172, 19, 1, 40, 172]
abbrev dktX0_jib_5 : List UInt8 := dkwX0_jib_5 ++ []
def dkwX0_jib_4 : List UInt8 := [44, 182, 0, 221, 153, 0, 7, 4, 167, 0, 4, 3, 172, 44, 16, 10, 46, 172, 42, 44, 42, 182, 0, 154]
abbrev dktX0_jib_4 : List UInt8 := dkwX0_jib_4 ++ dktX0_jib_5
def dkwX0_jib_3 : List UInt8 := [44, 7, 46, 172, 44, 8, 46, 172, 44, 16, 6, 46, 172, 44, 16, 7, 46, 172, 44, 16, 8, 46, 172, 42]
abbrev dktX0_jib_3 : List UInt8 := dkwX0_jib_3 ++ dktX0_jib_4
def dkwX0_jib_2 : List UInt8 := [44, 3, 46, 172, 44, 4, 46, 172, 44, 5, 46, 172, 44, 6, 46, 172, 44, 3, 46, 44, 5, 46, 100, 172]
abbrev dktX0_jib_2 : List UInt8 := dkwX0_jib_2 ++ dktX0_jib_3
def dkwX0_jib_1 : List UInt8 := [170, 0, 0, 0, 0, 0, 143, 0, 0, 0, 0, 0, 0, 0, 12, 0, 0, 0, 67, 0, 0, 0, 71, 0, 0, 0, 75, 0, 0, 0, 79, 0, 0, 0, 83, 0, 0, 0, 91, 0, 0, 0, 95, 0, 0, 0, 99, 0, 0, 0, 104, 0, 0, 0, 109, 0, 0, 0, 114, 0, 0, 0, 128, 0, 0, 0, 133]
abbrev dktX0_jib_1 : List UInt8 := dkwX0_jib_1 ++ dktX0_jib_2
def dkwX0_jib_0 : List UInt8 := [42, 180, 0, 21, 180, 0, 176, 77, 27]
abbrev dktX0_jib_0 : List UInt8 := dkwX0_jib_0 ++ dktX0_jib_1
theorem dksX0_jib_0 : cX0_jib.data.toList.drop 0 = dktX0_jib_0 := by decide +kernel
theorem dksX0_jib_1 : cX0_jib.data.toList.drop 9 = dktX0_jib_1 := dk_seg dksX0_jib_0 9 rfl rfl
theorem dksX0_jib_2 : cX0_jib.data.toList.drop 76 = dktX0_jib_2 := dk_seg dksX0_jib_1 67 rfl rfl
theorem dksX0_jib_3 : cX0_jib.data.toList.drop 100 = dktX0_jib_3 := dk_seg dksX0_jib_2 24 rfl rfl
theorem dksX0_jib_4 : cX0_jib.data.toList.drop 124 = dktX0_jib_4 := dk_seg dksX0_jib_3 24 rfl rfl
theorem dksX0_jib_5 : cX0_jib.data.toList.drop 148 = dktX0_jib_5 := dk_seg dksX0_jib_4 24 rfl rfl
theorem dX0_jib_0 : decode cX0_jib 0 = .ok (.aload_n 0, 1) := dk_42 (dk_at dksX0_jib_0 0 rfl rfl)
theorem dX0_jib_1 : decode cX0_jib 1 = .ok (.getfield 21, 3) := dk_180 0 21 (dk_at dksX0_jib_0 1 rfl rfl)
theorem dX0_jib_4 : decode cX0_jib 4 = .ok (.getfield 176, 3) := dk_180 0 176 (dk_at dksX0_jib_0 4 rfl rfl)
theorem dX0_jib_7 : decode cX0_jib 7 = .ok (.astore_n 2, 1) := dk_77 (dk_at dksX0_jib_0 7 rfl rfl)
theorem dX0_jib_8 : decode cX0_jib 8 = .ok (.iload_n 1, 1) := dk_27 (dk_at dksX0_jib_0 8 rfl rfl)
theorem dX0_jib_9 : decode cX0_jib 9 = .ok (.tableswitch 143 0 12 #[67, 71, 75, 79, 83, 91, 95, 99, 104, 109, 114, 128, 133], 67) := by decide +kernel
theorem dX0_jib_76 : decode cX0_jib 76 = .ok (.aload_n 2, 1) := dk_44 (dk_at dksX0_jib_2 0 rfl rfl)
theorem dX0_jib_77 : decode cX0_jib 77 = .ok (.iconst 0, 1) := dk_3 (dk_at dksX0_jib_2 1 rfl rfl)
theorem dX0_jib_78 : decode cX0_jib 78 = .ok (.iaload, 1) := dk_46 (dk_at dksX0_jib_2 2 rfl rfl)
theorem dX0_jib_79 : decode cX0_jib 79 = .ok (.ireturn, 1) := dk_172 (dk_at dksX0_jib_2 3 rfl rfl)
theorem dX0_jib_80 : decode cX0_jib 80 = .ok (.aload_n 2, 1) := dk_44 (dk_at dksX0_jib_2 4 rfl rfl)
theorem dX0_jib_81 : decode cX0_jib 81 = .ok (.iconst 1, 1) := dk_4 (dk_at dksX0_jib_2 5 rfl rfl)
theorem dX0_jib_82 : decode cX0_jib 82 = .ok (.iaload, 1) := dk_46 (dk_at dksX0_jib_2 6 rfl rfl)
theorem dX0_jib_83 : decode cX0_jib 83 = .ok (.ireturn, 1) := dk_172 (dk_at dksX0_jib_2 7 rfl rfl)
theorem dX0_jib_84 : decode cX0_jib 84 = .ok (.aload_n 2, 1) := dk_44 (dk_at dksX0_jib_2 8 rfl rfl)
theorem dX0_jib_85 : decode cX0_jib 85 = .ok (.iconst 2, 1) := dk_5 (dk_at dksX0_jib_2 9 rfl rfl)
theorem dX0_jib_86 : decode cX0_jib 86 = .ok (.iaload, 1) := dk_46 (dk_at dksX0_jib_2 10 rfl rfl)
theorem dX0_jib_87 : decode cX0_jib 87 = .ok (.ireturn, 1) := dk_172 (dk_at dksX0_jib_2 11 rfl rfl)
theorem dX0_jib_88 : decode cX0_jib 88 = .ok (.aload_n 2, 1) := dk_44 (dk_at dksX0_jib_2 12 rfl rfl)
theorem dX0_jib_89 : decode cX0_jib 89 = .ok (.iconst 3, 1) := dk_6 (dk_at dksX0_jib_2 13 rfl rfl)
theorem dX0_jib_90 : decode cX0_jib 90 = .ok (.iaload, 1) := dk_46 (dk_at dksX0_jib_2 14 rfl rfl)
theorem dX0_jib_91 : decode cX0_jib 91 = .ok (.ireturn, 1) := dk_172 (dk_at dksX0_jib_2 15 rfl rfl)
theorem dX0_jib_92 : decode cX0_jib 92 = .ok (.aload_n 2, 1) := dk_44 (dk_at dksX0_jib_2 16 rfl rfl)
theorem dX0_jib_93 : decode cX0_jib 93 = .ok (.iconst 0, 1) := dk_3 (dk_at dksX0_jib_2 17 rfl rfl)
theorem dX0_jib_94 : decode cX0_jib 94 = .ok (.iaload, 1) := dk_46 (dk_at dksX0_jib_2 18 rfl rfl)
theorem dX0_jib_95 : decode cX0_jib 95 = .ok (.aload_n 2, 1) := dk_44 (dk_at dksX0_jib_2 19 rfl rfl)
theorem dX0_jib_96 : decode cX0_jib 96 = .ok (.iconst 2, 1) := dk_5 (dk_at dksX0_jib_2 20 rfl rfl)
theorem dX0_jib_97 : decode cX0_jib 97 = .ok (.iaload, 1) := dk_46 (dk_at dksX0_jib_2 21 rfl rfl)
theorem dX0_jib_98 : decode cX0_jib 98 = .ok (.isub, 1) := dk_100 (dk_at dksX0_jib_2 22 rfl rfl)
theorem dX0_jib_99 : decode cX0_jib 99 = .ok (.ireturn, 1) := dk_172 (dk_at dksX0_jib_2 23 rfl rfl)
theorem dX0_jib_100 : decode cX0_jib 100 = .ok (.aload_n 2, 1) := dk_44 (dk_at dksX0_jib_3 0 rfl rfl)
theorem dX0_jib_101 : decode cX0_jib 101 = .ok (.iconst 4, 1) := dk_7 (dk_at dksX0_jib_3 1 rfl rfl)
theorem dX0_jib_102 : decode cX0_jib 102 = .ok (.iaload, 1) := dk_46 (dk_at dksX0_jib_3 2 rfl rfl)
theorem dX0_jib_103 : decode cX0_jib 103 = .ok (.ireturn, 1) := dk_172 (dk_at dksX0_jib_3 3 rfl rfl)
theorem dX0_jib_104 : decode cX0_jib 104 = .ok (.aload_n 2, 1) := dk_44 (dk_at dksX0_jib_3 4 rfl rfl)
theorem dX0_jib_105 : decode cX0_jib 105 = .ok (.iconst 5, 1) := dk_8 (dk_at dksX0_jib_3 5 rfl rfl)
theorem dX0_jib_106 : decode cX0_jib 106 = .ok (.iaload, 1) := dk_46 (dk_at dksX0_jib_3 6 rfl rfl)
theorem dX0_jib_107 : decode cX0_jib 107 = .ok (.ireturn, 1) := dk_172 (dk_at dksX0_jib_3 7 rfl rfl)
theorem dX0_jib_108 : decode cX0_jib 108 = .ok (.aload_n 2, 1) := dk_44 (dk_at dksX0_jib_3 8 rfl rfl)
theorem dX0_jib_109 : decode cX0_jib 109 = .ok (.bipush 6, 2) := dk_16 6 (dk_at dksX0_jib_3 9 rfl rfl)
theorem dX0_jib_111 : decode cX0_jib 111 = .ok (.iaload, 1) := dk_46 (dk_at dksX0_jib_3 11 rfl rfl)
theorem dX0_jib_112 : decode cX0_jib 112 = .ok (.ireturn, 1) := dk_172 (dk_at dksX0_jib_3 12 rfl rfl)
theorem dX0_jib_113 : decode cX0_jib 113 = .ok (.aload_n 2, 1) := dk_44 (dk_at dksX0_jib_3 13 rfl rfl)
theorem dX0_jib_114 : decode cX0_jib 114 = .ok (.bipush 7, 2) := dk_16 7 (dk_at dksX0_jib_3 14 rfl rfl)
theorem dX0_jib_116 : decode cX0_jib 116 = .ok (.iaload, 1) := dk_46 (dk_at dksX0_jib_3 16 rfl rfl)
theorem dX0_jib_117 : decode cX0_jib 117 = .ok (.ireturn, 1) := dk_172 (dk_at dksX0_jib_3 17 rfl rfl)
theorem dX0_jib_118 : decode cX0_jib 118 = .ok (.aload_n 2, 1) := dk_44 (dk_at dksX0_jib_3 18 rfl rfl)
theorem dX0_jib_119 : decode cX0_jib 119 = .ok (.bipush 8, 2) := dk_16 8 (dk_at dksX0_jib_3 19 rfl rfl)
theorem dX0_jib_121 : decode cX0_jib 121 = .ok (.iaload, 1) := dk_46 (dk_at dksX0_jib_3 21 rfl rfl)
theorem dX0_jib_122 : decode cX0_jib 122 = .ok (.ireturn, 1) := dk_172 (dk_at dksX0_jib_3 22 rfl rfl)
theorem dX0_jib_123 : decode cX0_jib 123 = .ok (.aload_n 0, 1) := dk_42 (dk_at dksX0_jib_3 23 rfl rfl)
theorem dX0_jib_124 : decode cX0_jib 124 = .ok (.aload_n 2, 1) := dk_44 (dk_at dksX0_jib_4 0 rfl rfl)
theorem dX0_jib_125 : decode cX0_jib 125 = .ok (.invokevirtual 221, 3) := dk_182 0 221 (dk_at dksX0_jib_4 1 rfl rfl)
theorem dX0_jib_128 : decode cX0_jib 128 = .ok (.ifCond .eq 7, 3) := dk_153 0 7 (dk_at dksX0_jib_4 4 rfl rfl)
theorem dX0_jib_131 : decode cX0_jib 131 = .ok (.iconst 1, 1) := dk_4 (dk_at dksX0_jib_4 7 rfl rfl)
theorem dX0_jib_132 : decode cX0_jib 132 = .ok (.goto 4, 3) := dk_167 0 4 (dk_at dksX0_jib_4 8 rfl rfl)
theorem dX0_jib_135 : decode cX0_jib 135 = .ok (.iconst 0, 1) := dk_3 (dk_at dksX0_jib_4 11 rfl rfl)
theorem dX0_jib_136 : decode cX0_jib 136 = .ok (.ireturn, 1) := dk_172 (dk_at dksX0_jib_4 12 rfl rfl)
theorem dX0_jib_137 : decode cX0_jib 137 = .ok (.aload_n 2, 1) := dk_44 (dk_at dksX0_jib_4 13 rfl rfl)
theorem dX0_jib_138 : decode cX0_jib 138 = .ok (.bipush 10, 2) := dk_16 10 (dk_at dksX0_jib_4 14 rfl rfl)
theorem dX0_jib_140 : decode cX0_jib 140 = .ok (.iaload, 1) := dk_46 (dk_at dksX0_jib_4 16 rfl rfl)
theorem dX0_jib_141 : decode cX0_jib 141 = .ok (.ireturn, 1) := dk_172 (dk_at dksX0_jib_4 17 rfl rfl)
theorem dX0_jib_142 : decode cX0_jib 142 = .ok (.aload_n 0, 1) := dk_42 (dk_at dksX0_jib_4 18 rfl rfl)
theorem dX0_jib_143 : decode cX0_jib 143 = .ok (.aload_n 2, 1) := dk_44 (dk_at dksX0_jib_4 19 rfl rfl)
theorem dX0_jib_144 : decode cX0_jib 144 = .ok (.aload_n 0, 1) := dk_42 (dk_at dksX0_jib_4 20 rfl rfl)
theorem dX0_jib_145 : decode cX0_jib 145 = .ok (.invokevirtual 154, 3) := dk_182 0 154 (dk_at dksX0_jib_4 21 rfl rfl)
theorem dX0_jib_148 : decode cX0_jib 148 = .ok (.invokevirtual 207, 3) := dk_182 0 207 (dk_at dksX0_jib_5 0 rfl rfl)
theorem dX0_jib_151 : decode cX0_jib 151 = .ok (.ireturn, 1) := dk_172 (dk_at dksX0_jib_5 3 rfl rfl)
theorem dX0_jib_152 : decode cX0_jib 152 = .ok (.ldc_w 296, 3) := dk_19 1 40 (dk_at dksX0_jib_5 4 rfl rfl)
theorem dX0_jib_155 : decode cX0_jib 155 = .ok (.ireturn, 1) := dk_172 (dk_at dksX0_jib_5 7 rfl rfl)
abbrev cX0_ofOrder : ByteArray := prog_1_method_44_code
def yX0_ofOrder : MethodName := ⟨RX0, "ofOrder", "(II)I"⟩
def dkwX0_ofOrder_3 : List UInt8 := [182, 1, 41, 167, 0, 18, 42, 42, 180, 0, 21, 180, 0, 86, 27, 50, 4, 46, 182, 1, 44, 172]
abbrev dktX0_ofOrder_3 : List UInt8 := dkwX0_ofOrder_3 ++ []
def dkwX0_ofOrder_2 : List UInt8 := [180, 0, 21, 180, 0, 176, 16, 11, 46, 27, 122, 4, 126, 167, 0, 32, 28, 16, 6, 160, 0, 11, 42, 27]
abbrev dktX0_ofOrder_2 : List UInt8 := dkwX0_ofOrder_2 ++ dktX0_ofOrder_3
def dkwX0_ofOrder_1 : List UInt8 := [162, 0, 17, 42, 180, 0, 21, 180, 0, 86, 27, 50, 28, 46, 167, 0, 54, 28, 8, 160, 0, 20, 42]
abbrev dktX0_ofOrder_1 : List UInt8 := dkwX0_ofOrder_1 ++ dktX0_ofOrder_2
def dkwX0_ofOrder_0 : List UInt8 := [42, 27, 182, 0, 215, 153, 0, 13, 28, 3, 16, 7, 184, 0, 82, 154, 0, 5, 2, 172, 28, 8]
abbrev dktX0_ofOrder_0 : List UInt8 := dkwX0_ofOrder_0 ++ dktX0_ofOrder_1
theorem dksX0_ofOrder_0 : cX0_ofOrder.data.toList.drop 0 = dktX0_ofOrder_0 := by decide +kernel
theorem dksX0_ofOrder_1 : cX0_ofOrder.data.toList.drop 22 = dktX0_ofOrder_1 := dk_seg dksX0_ofOrder_0 22 rfl rfl
theorem dksX0_ofOrder_2 : cX0_ofOrder.data.toList.drop 45 = dktX0_ofOrder_2 := dk_seg dksX0_ofOrder_1 23 rfl rfl
theorem dksX0_ofOrder_3 : cX0_ofOrder.data.toList.drop 69 = dktX0_ofOrder_3 := dk_seg dksX0_ofOrder_2 24 rfl rfl
theorem dX0_ofOrder_0 : decode cX0_ofOrder 0 = .ok (.aload_n 0, 1) := dk_42 (dk_at dksX0_ofOrder_0 0 rfl rfl)
theorem dX0_ofOrder_1 : decode cX0_ofOrder 1 = .ok (.iload_n 1, 1) := dk_27 (dk_at dksX0_ofOrder_0 1 rfl rfl)
theorem dX0_ofOrder_2 : decode cX0_ofOrder 2 = .ok (.invokevirtual 215, 3) := dk_182 0 215 (dk_at dksX0_ofOrder_0 2 rfl rfl)
theorem dX0_ofOrder_5 : decode cX0_ofOrder 5 = .ok (.ifCond .eq 13, 3) := dk_153 0 13 (dk_at dksX0_ofOrder_0 5 rfl rfl)
theorem dX0_ofOrder_8 : decode cX0_ofOrder 8 = .ok (.iload_n 2, 1) := dk_28 (dk_at dksX0_ofOrder_0 8 rfl rfl)
theorem dX0_ofOrder_9 : decode cX0_ofOrder 9 = .ok (.iconst 0, 1) := dk_3 (dk_at dksX0_ofOrder_0 9 rfl rfl)
theorem dX0_ofOrder_10 : decode cX0_ofOrder 10 = .ok (.bipush 7, 2) := dk_16 7 (dk_at dksX0_ofOrder_0 10 rfl rfl)
theorem dX0_ofOrder_12 : decode cX0_ofOrder 12 = .ok (.invokestatic 82, 3) := dk_184 0 82 (dk_at dksX0_ofOrder_0 12 rfl rfl)
theorem dX0_ofOrder_15 : decode cX0_ofOrder 15 = .ok (.ifCond .ne 5, 3) := dk_154 0 5 (dk_at dksX0_ofOrder_0 15 rfl rfl)
theorem dX0_ofOrder_18 : decode cX0_ofOrder 18 = .ok (.iconst (-1), 1) := dk_2 (dk_at dksX0_ofOrder_0 18 rfl rfl)
theorem dX0_ofOrder_19 : decode cX0_ofOrder 19 = .ok (.ireturn, 1) := dk_172 (dk_at dksX0_ofOrder_0 19 rfl rfl)
theorem dX0_ofOrder_20 : decode cX0_ofOrder 20 = .ok (.iload_n 2, 1) := dk_28 (dk_at dksX0_ofOrder_0 20 rfl rfl)
theorem dX0_ofOrder_21 : decode cX0_ofOrder 21 = .ok (.iconst 5, 1) := dk_8 (dk_at dksX0_ofOrder_0 21 rfl rfl)
theorem dX0_ofOrder_22 : decode cX0_ofOrder 22 = .ok (.if_icmp .ge 17, 3) := dk_162 0 17 (dk_at dksX0_ofOrder_1 0 rfl rfl)
theorem dX0_ofOrder_25 : decode cX0_ofOrder 25 = .ok (.aload_n 0, 1) := dk_42 (dk_at dksX0_ofOrder_1 3 rfl rfl)
theorem dX0_ofOrder_26 : decode cX0_ofOrder 26 = .ok (.getfield 21, 3) := dk_180 0 21 (dk_at dksX0_ofOrder_1 4 rfl rfl)
theorem dX0_ofOrder_29 : decode cX0_ofOrder 29 = .ok (.getfield 86, 3) := dk_180 0 86 (dk_at dksX0_ofOrder_1 7 rfl rfl)
theorem dX0_ofOrder_32 : decode cX0_ofOrder 32 = .ok (.iload_n 1, 1) := dk_27 (dk_at dksX0_ofOrder_1 10 rfl rfl)
theorem dX0_ofOrder_33 : decode cX0_ofOrder 33 = .ok (.aaload, 1) := dk_50 (dk_at dksX0_ofOrder_1 11 rfl rfl)
theorem dX0_ofOrder_34 : decode cX0_ofOrder 34 = .ok (.iload_n 2, 1) := dk_28 (dk_at dksX0_ofOrder_1 12 rfl rfl)
theorem dX0_ofOrder_35 : decode cX0_ofOrder 35 = .ok (.iaload, 1) := dk_46 (dk_at dksX0_ofOrder_1 13 rfl rfl)
theorem dX0_ofOrder_36 : decode cX0_ofOrder 36 = .ok (.goto 54, 3) := dk_167 0 54 (dk_at dksX0_ofOrder_1 14 rfl rfl)
theorem dX0_ofOrder_39 : decode cX0_ofOrder 39 = .ok (.iload_n 2, 1) := dk_28 (dk_at dksX0_ofOrder_1 17 rfl rfl)
theorem dX0_ofOrder_40 : decode cX0_ofOrder 40 = .ok (.iconst 5, 1) := dk_8 (dk_at dksX0_ofOrder_1 18 rfl rfl)
theorem dX0_ofOrder_41 : decode cX0_ofOrder 41 = .ok (.if_icmp .ne 20, 3) := dk_160 0 20 (dk_at dksX0_ofOrder_1 19 rfl rfl)
theorem dX0_ofOrder_44 : decode cX0_ofOrder 44 = .ok (.aload_n 0, 1) := dk_42 (dk_at dksX0_ofOrder_1 22 rfl rfl)
theorem dX0_ofOrder_45 : decode cX0_ofOrder 45 = .ok (.getfield 21, 3) := dk_180 0 21 (dk_at dksX0_ofOrder_2 0 rfl rfl)
theorem dX0_ofOrder_48 : decode cX0_ofOrder 48 = .ok (.getfield 176, 3) := dk_180 0 176 (dk_at dksX0_ofOrder_2 3 rfl rfl)
theorem dX0_ofOrder_51 : decode cX0_ofOrder 51 = .ok (.bipush 11, 2) := dk_16 11 (dk_at dksX0_ofOrder_2 6 rfl rfl)
theorem dX0_ofOrder_53 : decode cX0_ofOrder 53 = .ok (.iaload, 1) := dk_46 (dk_at dksX0_ofOrder_2 8 rfl rfl)
theorem dX0_ofOrder_54 : decode cX0_ofOrder 54 = .ok (.iload_n 1, 1) := dk_27 (dk_at dksX0_ofOrder_2 9 rfl rfl)
theorem dX0_ofOrder_55 : decode cX0_ofOrder 55 = .ok (.ishr, 1) := dk_122 (dk_at dksX0_ofOrder_2 10 rfl rfl)
theorem dX0_ofOrder_56 : decode cX0_ofOrder 56 = .ok (.iconst 1, 1) := dk_4 (dk_at dksX0_ofOrder_2 11 rfl rfl)
theorem dX0_ofOrder_57 : decode cX0_ofOrder 57 = .ok (.iand, 1) := dk_126 (dk_at dksX0_ofOrder_2 12 rfl rfl)
theorem dX0_ofOrder_58 : decode cX0_ofOrder 58 = .ok (.goto 32, 3) := dk_167 0 32 (dk_at dksX0_ofOrder_2 13 rfl rfl)
theorem dX0_ofOrder_61 : decode cX0_ofOrder 61 = .ok (.iload_n 2, 1) := dk_28 (dk_at dksX0_ofOrder_2 16 rfl rfl)
theorem dX0_ofOrder_62 : decode cX0_ofOrder 62 = .ok (.bipush 6, 2) := dk_16 6 (dk_at dksX0_ofOrder_2 17 rfl rfl)
theorem dX0_ofOrder_64 : decode cX0_ofOrder 64 = .ok (.if_icmp .ne 11, 3) := dk_160 0 11 (dk_at dksX0_ofOrder_2 19 rfl rfl)
theorem dX0_ofOrder_67 : decode cX0_ofOrder 67 = .ok (.aload_n 0, 1) := dk_42 (dk_at dksX0_ofOrder_2 22 rfl rfl)
theorem dX0_ofOrder_68 : decode cX0_ofOrder 68 = .ok (.iload_n 1, 1) := dk_27 (dk_at dksX0_ofOrder_2 23 rfl rfl)
theorem dX0_ofOrder_69 : decode cX0_ofOrder 69 = .ok (.invokevirtual 297, 3) := dk_182 1 41 (dk_at dksX0_ofOrder_3 0 rfl rfl)
theorem dX0_ofOrder_72 : decode cX0_ofOrder 72 = .ok (.goto 18, 3) := dk_167 0 18 (dk_at dksX0_ofOrder_3 3 rfl rfl)
theorem dX0_ofOrder_75 : decode cX0_ofOrder 75 = .ok (.aload_n 0, 1) := dk_42 (dk_at dksX0_ofOrder_3 6 rfl rfl)
theorem dX0_ofOrder_76 : decode cX0_ofOrder 76 = .ok (.aload_n 0, 1) := dk_42 (dk_at dksX0_ofOrder_3 7 rfl rfl)
theorem dX0_ofOrder_77 : decode cX0_ofOrder 77 = .ok (.getfield 21, 3) := dk_180 0 21 (dk_at dksX0_ofOrder_3 8 rfl rfl)
theorem dX0_ofOrder_80 : decode cX0_ofOrder 80 = .ok (.getfield 86, 3) := dk_180 0 86 (dk_at dksX0_ofOrder_3 11 rfl rfl)
theorem dX0_ofOrder_83 : decode cX0_ofOrder 83 = .ok (.iload_n 1, 1) := dk_27 (dk_at dksX0_ofOrder_3 14 rfl rfl)
theorem dX0_ofOrder_84 : decode cX0_ofOrder 84 = .ok (.aaload, 1) := dk_50 (dk_at dksX0_ofOrder_3 15 rfl rfl)
theorem dX0_ofOrder_85 : decode cX0_ofOrder 85 = .ok (.iconst 1, 1) := dk_4 (dk_at dksX0_ofOrder_3 16 rfl rfl)
theorem dX0_ofOrder_86 : decode cX0_ofOrder 86 = .ok (.iaload, 1) := dk_46 (dk_at dksX0_ofOrder_3 17 rfl rfl)
theorem dX0_ofOrder_87 : decode cX0_ofOrder 87 = .ok (.invokevirtual 300, 3) := dk_182 1 44 (dk_at dksX0_ofOrder_3 18 rfl rfl)
theorem dX0_ofOrder_90 : decode cX0_ofOrder 90 = .ok (.ireturn, 1) := dk_172 (dk_at dksX0_ofOrder_3 21 rfl rfl)
abbrev cX0_lastsOf : ByteArray := prog_1_method_22_code
def yX0_lastsOf : MethodName := ⟨RX0, "lastsOf", "(I)I"⟩
def dkwX0_lastsOf_3 : List UInt8 := [16, 99, 182, 0, 173, 172]
abbrev dktX0_lastsOf_3 : List UInt8 := dkwX0_lastsOf_3 ++ []
def dkwX0_lastsOf_2 : List UInt8 := [27, 50, 4, 46, 79, 42, 7, 42, 180, 0, 21, 180, 0, 86, 27, 50, 4, 46, 16, 10, 108, 4, 96, 4]
abbrev dktX0_lastsOf_2 : List UInt8 := dkwX0_lastsOf_2 ++ dktX0_lastsOf_3
def dkwX0_lastsOf_1 : List UInt8 := [180, 0, 21, 180, 0, 86, 27, 50, 3, 46, 79, 42, 180, 0, 39, 16, 7, 42, 180, 0, 21, 180, 0, 86]
abbrev dktX0_lastsOf_1 : List UInt8 := dkwX0_lastsOf_1 ++ dktX0_lastsOf_2
def dkwX0_lastsOf_0 : List UInt8 := [42, 180, 0, 39, 8, 42, 180, 0, 21, 180, 0, 176, 7, 46, 79, 42, 180, 0, 39, 16, 6, 42]
abbrev dktX0_lastsOf_0 : List UInt8 := dkwX0_lastsOf_0 ++ dktX0_lastsOf_1
theorem dksX0_lastsOf_0 : cX0_lastsOf.data.toList.drop 0 = dktX0_lastsOf_0 := by decide +kernel
theorem dksX0_lastsOf_1 : cX0_lastsOf.data.toList.drop 22 = dktX0_lastsOf_1 := dk_seg dksX0_lastsOf_0 22 rfl rfl
theorem dksX0_lastsOf_2 : cX0_lastsOf.data.toList.drop 46 = dktX0_lastsOf_2 := dk_seg dksX0_lastsOf_1 24 rfl rfl
theorem dksX0_lastsOf_3 : cX0_lastsOf.data.toList.drop 70 = dktX0_lastsOf_3 := dk_seg dksX0_lastsOf_2 24 rfl rfl
theorem dX0_lastsOf_0 : decode cX0_lastsOf 0 = .ok (.aload_n 0, 1) := dk_42 (dk_at dksX0_lastsOf_0 0 rfl rfl)
theorem dX0_lastsOf_1 : decode cX0_lastsOf 1 = .ok (.getfield 39, 3) := dk_180 0 39 (dk_at dksX0_lastsOf_0 1 rfl rfl)
theorem dX0_lastsOf_4 : decode cX0_lastsOf 4 = .ok (.iconst 5, 1) := dk_8 (dk_at dksX0_lastsOf_0 4 rfl rfl)
theorem dX0_lastsOf_5 : decode cX0_lastsOf 5 = .ok (.aload_n 0, 1) := dk_42 (dk_at dksX0_lastsOf_0 5 rfl rfl)
theorem dX0_lastsOf_6 : decode cX0_lastsOf 6 = .ok (.getfield 21, 3) := dk_180 0 21 (dk_at dksX0_lastsOf_0 6 rfl rfl)
theorem dX0_lastsOf_9 : decode cX0_lastsOf 9 = .ok (.getfield 176, 3) := dk_180 0 176 (dk_at dksX0_lastsOf_0 9 rfl rfl)
theorem dX0_lastsOf_12 : decode cX0_lastsOf 12 = .ok (.iconst 4, 1) := dk_7 (dk_at dksX0_lastsOf_0 12 rfl rfl)
theorem dX0_lastsOf_13 : decode cX0_lastsOf 13 = .ok (.iaload, 1) := dk_46 (dk_at dksX0_lastsOf_0 13 rfl rfl)
theorem dX0_lastsOf_14 : decode cX0_lastsOf 14 = .ok (.iastore, 1) := dk_79 (dk_at dksX0_lastsOf_0 14 rfl rfl)
theorem dX0_lastsOf_15 : decode cX0_lastsOf 15 = .ok (.aload_n 0, 1) := dk_42 (dk_at dksX0_lastsOf_0 15 rfl rfl)
theorem dX0_lastsOf_16 : decode cX0_lastsOf 16 = .ok (.getfield 39, 3) := dk_180 0 39 (dk_at dksX0_lastsOf_0 16 rfl rfl)
theorem dX0_lastsOf_19 : decode cX0_lastsOf 19 = .ok (.bipush 6, 2) := dk_16 6 (dk_at dksX0_lastsOf_0 19 rfl rfl)
theorem dX0_lastsOf_21 : decode cX0_lastsOf 21 = .ok (.aload_n 0, 1) := dk_42 (dk_at dksX0_lastsOf_0 21 rfl rfl)
theorem dX0_lastsOf_22 : decode cX0_lastsOf 22 = .ok (.getfield 21, 3) := dk_180 0 21 (dk_at dksX0_lastsOf_1 0 rfl rfl)
theorem dX0_lastsOf_25 : decode cX0_lastsOf 25 = .ok (.getfield 86, 3) := dk_180 0 86 (dk_at dksX0_lastsOf_1 3 rfl rfl)
theorem dX0_lastsOf_28 : decode cX0_lastsOf 28 = .ok (.iload_n 1, 1) := dk_27 (dk_at dksX0_lastsOf_1 6 rfl rfl)
theorem dX0_lastsOf_29 : decode cX0_lastsOf 29 = .ok (.aaload, 1) := dk_50 (dk_at dksX0_lastsOf_1 7 rfl rfl)
theorem dX0_lastsOf_30 : decode cX0_lastsOf 30 = .ok (.iconst 0, 1) := dk_3 (dk_at dksX0_lastsOf_1 8 rfl rfl)
theorem dX0_lastsOf_31 : decode cX0_lastsOf 31 = .ok (.iaload, 1) := dk_46 (dk_at dksX0_lastsOf_1 9 rfl rfl)
theorem dX0_lastsOf_32 : decode cX0_lastsOf 32 = .ok (.iastore, 1) := dk_79 (dk_at dksX0_lastsOf_1 10 rfl rfl)
theorem dX0_lastsOf_33 : decode cX0_lastsOf 33 = .ok (.aload_n 0, 1) := dk_42 (dk_at dksX0_lastsOf_1 11 rfl rfl)
theorem dX0_lastsOf_34 : decode cX0_lastsOf 34 = .ok (.getfield 39, 3) := dk_180 0 39 (dk_at dksX0_lastsOf_1 12 rfl rfl)
theorem dX0_lastsOf_37 : decode cX0_lastsOf 37 = .ok (.bipush 7, 2) := dk_16 7 (dk_at dksX0_lastsOf_1 15 rfl rfl)
theorem dX0_lastsOf_39 : decode cX0_lastsOf 39 = .ok (.aload_n 0, 1) := dk_42 (dk_at dksX0_lastsOf_1 17 rfl rfl)
theorem dX0_lastsOf_40 : decode cX0_lastsOf 40 = .ok (.getfield 21, 3) := dk_180 0 21 (dk_at dksX0_lastsOf_1 18 rfl rfl)
theorem dX0_lastsOf_43 : decode cX0_lastsOf 43 = .ok (.getfield 86, 3) := dk_180 0 86 (dk_at dksX0_lastsOf_1 21 rfl rfl)
theorem dX0_lastsOf_46 : decode cX0_lastsOf 46 = .ok (.iload_n 1, 1) := dk_27 (dk_at dksX0_lastsOf_2 0 rfl rfl)
theorem dX0_lastsOf_47 : decode cX0_lastsOf 47 = .ok (.aaload, 1) := dk_50 (dk_at dksX0_lastsOf_2 1 rfl rfl)
theorem dX0_lastsOf_48 : decode cX0_lastsOf 48 = .ok (.iconst 1, 1) := dk_4 (dk_at dksX0_lastsOf_2 2 rfl rfl)
theorem dX0_lastsOf_49 : decode cX0_lastsOf 49 = .ok (.iaload, 1) := dk_46 (dk_at dksX0_lastsOf_2 3 rfl rfl)
theorem dX0_lastsOf_50 : decode cX0_lastsOf 50 = .ok (.iastore, 1) := dk_79 (dk_at dksX0_lastsOf_2 4 rfl rfl)
theorem dX0_lastsOf_51 : decode cX0_lastsOf 51 = .ok (.aload_n 0, 1) := dk_42 (dk_at dksX0_lastsOf_2 5 rfl rfl)
theorem dX0_lastsOf_52 : decode cX0_lastsOf 52 = .ok (.iconst 4, 1) := dk_7 (dk_at dksX0_lastsOf_2 6 rfl rfl)
theorem dX0_lastsOf_53 : decode cX0_lastsOf 53 = .ok (.aload_n 0, 1) := dk_42 (dk_at dksX0_lastsOf_2 7 rfl rfl)
theorem dX0_lastsOf_54 : decode cX0_lastsOf 54 = .ok (.getfield 21, 3) := dk_180 0 21 (dk_at dksX0_lastsOf_2 8 rfl rfl)
theorem dX0_lastsOf_57 : decode cX0_lastsOf 57 = .ok (.getfield 86, 3) := dk_180 0 86 (dk_at dksX0_lastsOf_2 11 rfl rfl)
theorem dX0_lastsOf_60 : decode cX0_lastsOf 60 = .ok (.iload_n 1, 1) := dk_27 (dk_at dksX0_lastsOf_2 14 rfl rfl)
theorem dX0_lastsOf_61 : decode cX0_lastsOf 61 = .ok (.aaload, 1) := dk_50 (dk_at dksX0_lastsOf_2 15 rfl rfl)
theorem dX0_lastsOf_62 : decode cX0_lastsOf 62 = .ok (.iconst 1, 1) := dk_4 (dk_at dksX0_lastsOf_2 16 rfl rfl)
theorem dX0_lastsOf_63 : decode cX0_lastsOf 63 = .ok (.iaload, 1) := dk_46 (dk_at dksX0_lastsOf_2 17 rfl rfl)
theorem dX0_lastsOf_64 : decode cX0_lastsOf 64 = .ok (.bipush 10, 2) := dk_16 10 (dk_at dksX0_lastsOf_2 18 rfl rfl)
theorem dX0_lastsOf_66 : decode cX0_lastsOf 66 = .ok (.idiv, 1) := dk_108 (dk_at dksX0_lastsOf_2 20 rfl rfl)
theorem dX0_lastsOf_67 : decode cX0_lastsOf 67 = .ok (.iconst 1, 1) := dk_4 (dk_at dksX0_lastsOf_2 21 rfl rfl)
theorem dX0_lastsOf_68 : decode cX0_lastsOf 68 = .ok (.iadd, 1) := dk_96 (dk_at dksX0_lastsOf_2 22 rfl rfl)
theorem dX0_lastsOf_69 : decode cX0_lastsOf 69 = .ok (.iconst 1, 1) := dk_4 (dk_at dksX0_lastsOf_2 23 rfl rfl)
theorem dX0_lastsOf_70 : decode cX0_lastsOf 70 = .ok (.bipush 99, 2) := dk_16 99 (dk_at dksX0_lastsOf_3 0 rfl rfl)
theorem dX0_lastsOf_72 : decode cX0_lastsOf 72 = .ok (.invokevirtual 173, 3) := dk_182 0 173 (dk_at dksX0_lastsOf_3 2 rfl rfl)
theorem dX0_lastsOf_75 : decode cX0_lastsOf 75 = .ok (.ireturn, 1) := dk_172 (dk_at dksX0_lastsOf_3 5 rfl rfl)
abbrev cX0_holdsAt : ByteArray := prog_1_method_21_code
def yX0_holdsAt : MethodName := ⟨RX0, "holdsAt", "(I)I"⟩
def dkwX0_holdsAt_0 : List UInt8 := [42, 180, 0, 39, 16, 7, 27, 79, 42, 6, 16, 60, 27, 100, 3, 16, 99, 182, 0, 173, 172]
abbrev dktX0_holdsAt_0 : List UInt8 := dkwX0_holdsAt_0 ++ []
theorem dksX0_holdsAt_0 : cX0_holdsAt.data.toList.drop 0 = dktX0_holdsAt_0 := by decide +kernel
theorem dX0_holdsAt_0 : decode cX0_holdsAt 0 = .ok (.aload_n 0, 1) := dk_42 (dk_at dksX0_holdsAt_0 0 rfl rfl)
theorem dX0_holdsAt_1 : decode cX0_holdsAt 1 = .ok (.getfield 39, 3) := dk_180 0 39 (dk_at dksX0_holdsAt_0 1 rfl rfl)
theorem dX0_holdsAt_4 : decode cX0_holdsAt 4 = .ok (.bipush 7, 2) := dk_16 7 (dk_at dksX0_holdsAt_0 4 rfl rfl)
theorem dX0_holdsAt_6 : decode cX0_holdsAt 6 = .ok (.iload_n 1, 1) := dk_27 (dk_at dksX0_holdsAt_0 6 rfl rfl)
theorem dX0_holdsAt_7 : decode cX0_holdsAt 7 = .ok (.iastore, 1) := dk_79 (dk_at dksX0_holdsAt_0 7 rfl rfl)
theorem dX0_holdsAt_8 : decode cX0_holdsAt 8 = .ok (.aload_n 0, 1) := dk_42 (dk_at dksX0_holdsAt_0 8 rfl rfl)
theorem dX0_holdsAt_9 : decode cX0_holdsAt 9 = .ok (.iconst 3, 1) := dk_6 (dk_at dksX0_holdsAt_0 9 rfl rfl)
theorem dX0_holdsAt_10 : decode cX0_holdsAt 10 = .ok (.bipush 60, 2) := dk_16 60 (dk_at dksX0_holdsAt_0 10 rfl rfl)
theorem dX0_holdsAt_12 : decode cX0_holdsAt 12 = .ok (.iload_n 1, 1) := dk_27 (dk_at dksX0_holdsAt_0 12 rfl rfl)
theorem dX0_holdsAt_13 : decode cX0_holdsAt 13 = .ok (.isub, 1) := dk_100 (dk_at dksX0_holdsAt_0 13 rfl rfl)
theorem dX0_holdsAt_14 : decode cX0_holdsAt 14 = .ok (.iconst 0, 1) := dk_3 (dk_at dksX0_holdsAt_0 14 rfl rfl)
theorem dX0_holdsAt_15 : decode cX0_holdsAt 15 = .ok (.bipush 99, 2) := dk_16 99 (dk_at dksX0_holdsAt_0 15 rfl rfl)
theorem dX0_holdsAt_17 : decode cX0_holdsAt 17 = .ok (.invokevirtual 173, 3) := dk_182 0 173 (dk_at dksX0_holdsAt_0 17 rfl rfl)
theorem dX0_holdsAt_20 : decode cX0_holdsAt 20 = .ok (.ireturn, 1) := dk_172 (dk_at dksX0_holdsAt_0 20 rfl rfl)
abbrev cX0_ago : ByteArray := prog_1_method_45_code
def yX0_ago : MethodName := ⟨RX0, "ago", "(II)I"⟩
def dkwX0_ago_2 : List UInt8 := [180, 0, 21, 180, 0, 176, 16, 8, 46, 27, 100, 184, 0, 133, 28, 96, 46, 167, 0, 6, 19, 1, 40, 172]
abbrev dktX0_ago_2 : List UInt8 := dkwX0_ago_2 ++ []
def dkwX0_ago_1 : List UInt8 := [184, 0, 82, 153, 0, 40, 28, 3, 8, 184, 0, 82, 153, 0, 31, 42, 180, 0, 21, 180, 0, 176, 42]
abbrev dktX0_ago_1 : List UInt8 := dkwX0_ago_1 ++ dktX0_ago_2
def dkwX0_ago_0 : List UInt8 := [27, 4, 42, 180, 0, 21, 180, 0, 176, 16, 8, 46, 42, 180, 0, 21, 180, 0, 176, 184, 0, 146, 100]
abbrev dktX0_ago_0 : List UInt8 := dkwX0_ago_0 ++ dktX0_ago_1
theorem dksX0_ago_0 : cX0_ago.data.toList.drop 0 = dktX0_ago_0 := by decide +kernel
theorem dksX0_ago_1 : cX0_ago.data.toList.drop 23 = dktX0_ago_1 := dk_seg dksX0_ago_0 23 rfl rfl
theorem dksX0_ago_2 : cX0_ago.data.toList.drop 46 = dktX0_ago_2 := dk_seg dksX0_ago_1 23 rfl rfl
theorem dX0_ago_0 : decode cX0_ago 0 = .ok (.iload_n 1, 1) := dk_27 (dk_at dksX0_ago_0 0 rfl rfl)
theorem dX0_ago_1 : decode cX0_ago 1 = .ok (.iconst 1, 1) := dk_4 (dk_at dksX0_ago_0 1 rfl rfl)
theorem dX0_ago_2 : decode cX0_ago 2 = .ok (.aload_n 0, 1) := dk_42 (dk_at dksX0_ago_0 2 rfl rfl)
theorem dX0_ago_3 : decode cX0_ago 3 = .ok (.getfield 21, 3) := dk_180 0 21 (dk_at dksX0_ago_0 3 rfl rfl)
theorem dX0_ago_6 : decode cX0_ago 6 = .ok (.getfield 176, 3) := dk_180 0 176 (dk_at dksX0_ago_0 6 rfl rfl)
theorem dX0_ago_9 : decode cX0_ago 9 = .ok (.bipush 8, 2) := dk_16 8 (dk_at dksX0_ago_0 9 rfl rfl)
theorem dX0_ago_11 : decode cX0_ago 11 = .ok (.iaload, 1) := dk_46 (dk_at dksX0_ago_0 11 rfl rfl)
theorem dX0_ago_12 : decode cX0_ago 12 = .ok (.aload_n 0, 1) := dk_42 (dk_at dksX0_ago_0 12 rfl rfl)
theorem dX0_ago_13 : decode cX0_ago 13 = .ok (.getfield 21, 3) := dk_180 0 21 (dk_at dksX0_ago_0 13 rfl rfl)
theorem dX0_ago_16 : decode cX0_ago 16 = .ok (.getfield 176, 3) := dk_180 0 176 (dk_at dksX0_ago_0 16 rfl rfl)
theorem dX0_ago_19 : decode cX0_ago 19 = .ok (.invokestatic 146, 3) := dk_184 0 146 (dk_at dksX0_ago_0 19 rfl rfl)
theorem dX0_ago_22 : decode cX0_ago 22 = .ok (.isub, 1) := dk_100 (dk_at dksX0_ago_0 22 rfl rfl)
theorem dX0_ago_23 : decode cX0_ago 23 = .ok (.invokestatic 82, 3) := dk_184 0 82 (dk_at dksX0_ago_1 0 rfl rfl)
theorem dX0_ago_26 : decode cX0_ago 26 = .ok (.ifCond .eq 40, 3) := dk_153 0 40 (dk_at dksX0_ago_1 3 rfl rfl)
theorem dX0_ago_29 : decode cX0_ago 29 = .ok (.iload_n 2, 1) := dk_28 (dk_at dksX0_ago_1 6 rfl rfl)
theorem dX0_ago_30 : decode cX0_ago 30 = .ok (.iconst 0, 1) := dk_3 (dk_at dksX0_ago_1 7 rfl rfl)
theorem dX0_ago_31 : decode cX0_ago 31 = .ok (.iconst 5, 1) := dk_8 (dk_at dksX0_ago_1 8 rfl rfl)
theorem dX0_ago_32 : decode cX0_ago 32 = .ok (.invokestatic 82, 3) := dk_184 0 82 (dk_at dksX0_ago_1 9 rfl rfl)
theorem dX0_ago_35 : decode cX0_ago 35 = .ok (.ifCond .eq 31, 3) := dk_153 0 31 (dk_at dksX0_ago_1 12 rfl rfl)
theorem dX0_ago_38 : decode cX0_ago 38 = .ok (.aload_n 0, 1) := dk_42 (dk_at dksX0_ago_1 15 rfl rfl)
theorem dX0_ago_39 : decode cX0_ago 39 = .ok (.getfield 21, 3) := dk_180 0 21 (dk_at dksX0_ago_1 16 rfl rfl)
theorem dX0_ago_42 : decode cX0_ago 42 = .ok (.getfield 176, 3) := dk_180 0 176 (dk_at dksX0_ago_1 19 rfl rfl)
theorem dX0_ago_45 : decode cX0_ago 45 = .ok (.aload_n 0, 1) := dk_42 (dk_at dksX0_ago_1 22 rfl rfl)
theorem dX0_ago_46 : decode cX0_ago 46 = .ok (.getfield 21, 3) := dk_180 0 21 (dk_at dksX0_ago_2 0 rfl rfl)
theorem dX0_ago_49 : decode cX0_ago 49 = .ok (.getfield 176, 3) := dk_180 0 176 (dk_at dksX0_ago_2 3 rfl rfl)
theorem dX0_ago_52 : decode cX0_ago 52 = .ok (.bipush 8, 2) := dk_16 8 (dk_at dksX0_ago_2 6 rfl rfl)
theorem dX0_ago_54 : decode cX0_ago 54 = .ok (.iaload, 1) := dk_46 (dk_at dksX0_ago_2 8 rfl rfl)
theorem dX0_ago_55 : decode cX0_ago 55 = .ok (.iload_n 1, 1) := dk_27 (dk_at dksX0_ago_2 9 rfl rfl)
theorem dX0_ago_56 : decode cX0_ago 56 = .ok (.isub, 1) := dk_100 (dk_at dksX0_ago_2 10 rfl rfl)
theorem dX0_ago_57 : decode cX0_ago 57 = .ok (.invokestatic 133, 3) := dk_184 0 133 (dk_at dksX0_ago_2 11 rfl rfl)
theorem dX0_ago_60 : decode cX0_ago 60 = .ok (.iload_n 2, 1) := dk_28 (dk_at dksX0_ago_2 14 rfl rfl)
theorem dX0_ago_61 : decode cX0_ago 61 = .ok (.iadd, 1) := dk_96 (dk_at dksX0_ago_2 15 rfl rfl)
theorem dX0_ago_62 : decode cX0_ago 62 = .ok (.iaload, 1) := dk_46 (dk_at dksX0_ago_2 16 rfl rfl)
theorem dX0_ago_63 : decode cX0_ago 63 = .ok (.goto 6, 3) := dk_167 0 6 (dk_at dksX0_ago_2 17 rfl rfl)
theorem dX0_ago_66 : decode cX0_ago 66 = .ok (.ldc_w 296, 3) := dk_19 1 40 (dk_at dksX0_ago_2 20 rfl rfl)
theorem dX0_ago_69 : decode cX0_ago 69 = .ok (.ireturn, 1) := dk_172 (dk_at dksX0_ago_2 23 rfl rfl)
abbrev cX0_foretold : ByteArray := prog_1_method_47_code
def yX0_foretold : MethodName := ⟨RX0, "foretold", "(IZI)I"⟩
def dkwX0_foretold_3 : List UInt8 := [160, 0, 10, 42, 180, 1, 47, 167, 0, 7, 42, 180, 1, 50, 172]
abbrev dktX0_foretold_3 : List UInt8 := dkwX0_foretold_3 ++ []
def dkwX0_foretold_2 : List UInt8 := [180, 0, 43, 3, 46, 167, 0, 33, 29, 4, 160, 0, 12, 42, 180, 0, 43, 5, 46, 167, 0, 19, 29, 5]
abbrev dktX0_foretold_2 : List UInt8 := dkwX0_foretold_2 ++ dktX0_foretold_3
def dkwX0_foretold_1 : List UInt8 := [42, 27, 28, 153, 0, 10, 42, 182, 0, 154, 167, 0, 4, 1, 4, 182, 1, 53, 29, 154, 0, 12, 42]
abbrev dktX0_foretold_1 : List UInt8 := dkwX0_foretold_1 ++ dktX0_foretold_2
def dkwX0_foretold_0 : List UInt8 := [27, 4, 17, 0, 200, 184, 0, 82, 153, 0, 12, 29, 3, 6, 184, 0, 82, 154, 0, 7, 19, 1, 40, 172]
abbrev dktX0_foretold_0 : List UInt8 := dkwX0_foretold_0 ++ dktX0_foretold_1
theorem dksX0_foretold_0 : cX0_foretold.data.toList.drop 0 = dktX0_foretold_0 := by decide +kernel
theorem dksX0_foretold_1 : cX0_foretold.data.toList.drop 24 = dktX0_foretold_1 := dk_seg dksX0_foretold_0 24 rfl rfl
theorem dksX0_foretold_2 : cX0_foretold.data.toList.drop 47 = dktX0_foretold_2 := dk_seg dksX0_foretold_1 23 rfl rfl
theorem dksX0_foretold_3 : cX0_foretold.data.toList.drop 71 = dktX0_foretold_3 := dk_seg dksX0_foretold_2 24 rfl rfl
theorem dX0_foretold_0 : decode cX0_foretold 0 = .ok (.iload_n 1, 1) := dk_27 (dk_at dksX0_foretold_0 0 rfl rfl)
theorem dX0_foretold_1 : decode cX0_foretold 1 = .ok (.iconst 1, 1) := dk_4 (dk_at dksX0_foretold_0 1 rfl rfl)
theorem dX0_foretold_2 : decode cX0_foretold 2 = .ok (.sipush 200, 3) := dk_17 0 200 (dk_at dksX0_foretold_0 2 rfl rfl)
theorem dX0_foretold_5 : decode cX0_foretold 5 = .ok (.invokestatic 82, 3) := dk_184 0 82 (dk_at dksX0_foretold_0 5 rfl rfl)
theorem dX0_foretold_8 : decode cX0_foretold 8 = .ok (.ifCond .eq 12, 3) := dk_153 0 12 (dk_at dksX0_foretold_0 8 rfl rfl)
theorem dX0_foretold_11 : decode cX0_foretold 11 = .ok (.iload_n 3, 1) := dk_29 (dk_at dksX0_foretold_0 11 rfl rfl)
theorem dX0_foretold_12 : decode cX0_foretold 12 = .ok (.iconst 0, 1) := dk_3 (dk_at dksX0_foretold_0 12 rfl rfl)
theorem dX0_foretold_13 : decode cX0_foretold 13 = .ok (.iconst 3, 1) := dk_6 (dk_at dksX0_foretold_0 13 rfl rfl)
theorem dX0_foretold_14 : decode cX0_foretold 14 = .ok (.invokestatic 82, 3) := dk_184 0 82 (dk_at dksX0_foretold_0 14 rfl rfl)
theorem dX0_foretold_17 : decode cX0_foretold 17 = .ok (.ifCond .ne 7, 3) := dk_154 0 7 (dk_at dksX0_foretold_0 17 rfl rfl)
theorem dX0_foretold_20 : decode cX0_foretold 20 = .ok (.ldc_w 296, 3) := dk_19 1 40 (dk_at dksX0_foretold_0 20 rfl rfl)
theorem dX0_foretold_23 : decode cX0_foretold 23 = .ok (.ireturn, 1) := dk_172 (dk_at dksX0_foretold_0 23 rfl rfl)
theorem dX0_foretold_24 : decode cX0_foretold 24 = .ok (.aload_n 0, 1) := dk_42 (dk_at dksX0_foretold_1 0 rfl rfl)
theorem dX0_foretold_25 : decode cX0_foretold 25 = .ok (.iload_n 1, 1) := dk_27 (dk_at dksX0_foretold_1 1 rfl rfl)
theorem dX0_foretold_26 : decode cX0_foretold 26 = .ok (.iload_n 2, 1) := dk_28 (dk_at dksX0_foretold_1 2 rfl rfl)
theorem dX0_foretold_27 : decode cX0_foretold 27 = .ok (.ifCond .eq 10, 3) := dk_153 0 10 (dk_at dksX0_foretold_1 3 rfl rfl)
theorem dX0_foretold_30 : decode cX0_foretold 30 = .ok (.aload_n 0, 1) := dk_42 (dk_at dksX0_foretold_1 6 rfl rfl)
theorem dX0_foretold_31 : decode cX0_foretold 31 = .ok (.invokevirtual 154, 3) := dk_182 0 154 (dk_at dksX0_foretold_1 7 rfl rfl)
theorem dX0_foretold_34 : decode cX0_foretold 34 = .ok (.goto 4, 3) := dk_167 0 4 (dk_at dksX0_foretold_1 10 rfl rfl)
theorem dX0_foretold_37 : decode cX0_foretold 37 = .ok (.aconst_null, 1) := dk_1 (dk_at dksX0_foretold_1 13 rfl rfl)
theorem dX0_foretold_38 : decode cX0_foretold 38 = .ok (.iconst 1, 1) := dk_4 (dk_at dksX0_foretold_1 14 rfl rfl)
theorem dX0_foretold_39 : decode cX0_foretold 39 = .ok (.invokevirtual 309, 3) := dk_182 1 53 (dk_at dksX0_foretold_1 15 rfl rfl)
theorem dX0_foretold_42 : decode cX0_foretold 42 = .ok (.iload_n 3, 1) := dk_29 (dk_at dksX0_foretold_1 18 rfl rfl)
theorem dX0_foretold_43 : decode cX0_foretold 43 = .ok (.ifCond .ne 12, 3) := dk_154 0 12 (dk_at dksX0_foretold_1 19 rfl rfl)
theorem dX0_foretold_46 : decode cX0_foretold 46 = .ok (.aload_n 0, 1) := dk_42 (dk_at dksX0_foretold_1 22 rfl rfl)
theorem dX0_foretold_47 : decode cX0_foretold 47 = .ok (.getfield 43, 3) := dk_180 0 43 (dk_at dksX0_foretold_2 0 rfl rfl)
theorem dX0_foretold_50 : decode cX0_foretold 50 = .ok (.iconst 0, 1) := dk_3 (dk_at dksX0_foretold_2 3 rfl rfl)
theorem dX0_foretold_51 : decode cX0_foretold 51 = .ok (.iaload, 1) := dk_46 (dk_at dksX0_foretold_2 4 rfl rfl)
theorem dX0_foretold_52 : decode cX0_foretold 52 = .ok (.goto 33, 3) := dk_167 0 33 (dk_at dksX0_foretold_2 5 rfl rfl)
theorem dX0_foretold_55 : decode cX0_foretold 55 = .ok (.iload_n 3, 1) := dk_29 (dk_at dksX0_foretold_2 8 rfl rfl)
theorem dX0_foretold_56 : decode cX0_foretold 56 = .ok (.iconst 1, 1) := dk_4 (dk_at dksX0_foretold_2 9 rfl rfl)
theorem dX0_foretold_57 : decode cX0_foretold 57 = .ok (.if_icmp .ne 12, 3) := dk_160 0 12 (dk_at dksX0_foretold_2 10 rfl rfl)
theorem dX0_foretold_60 : decode cX0_foretold 60 = .ok (.aload_n 0, 1) := dk_42 (dk_at dksX0_foretold_2 13 rfl rfl)
theorem dX0_foretold_61 : decode cX0_foretold 61 = .ok (.getfield 43, 3) := dk_180 0 43 (dk_at dksX0_foretold_2 14 rfl rfl)
theorem dX0_foretold_64 : decode cX0_foretold 64 = .ok (.iconst 2, 1) := dk_5 (dk_at dksX0_foretold_2 17 rfl rfl)
theorem dX0_foretold_65 : decode cX0_foretold 65 = .ok (.iaload, 1) := dk_46 (dk_at dksX0_foretold_2 18 rfl rfl)
theorem dX0_foretold_66 : decode cX0_foretold 66 = .ok (.goto 19, 3) := dk_167 0 19 (dk_at dksX0_foretold_2 19 rfl rfl)
theorem dX0_foretold_69 : decode cX0_foretold 69 = .ok (.iload_n 3, 1) := dk_29 (dk_at dksX0_foretold_2 22 rfl rfl)
theorem dX0_foretold_70 : decode cX0_foretold 70 = .ok (.iconst 2, 1) := dk_5 (dk_at dksX0_foretold_2 23 rfl rfl)
theorem dX0_foretold_71 : decode cX0_foretold 71 = .ok (.if_icmp .ne 10, 3) := dk_160 0 10 (dk_at dksX0_foretold_3 0 rfl rfl)
theorem dX0_foretold_74 : decode cX0_foretold 74 = .ok (.aload_n 0, 1) := dk_42 (dk_at dksX0_foretold_3 3 rfl rfl)
theorem dX0_foretold_75 : decode cX0_foretold 75 = .ok (.getfield 303, 3) := dk_180 1 47 (dk_at dksX0_foretold_3 4 rfl rfl)
theorem dX0_foretold_78 : decode cX0_foretold 78 = .ok (.goto 7, 3) := dk_167 0 7 (dk_at dksX0_foretold_3 7 rfl rfl)
theorem dX0_foretold_81 : decode cX0_foretold 81 = .ok (.aload_n 0, 1) := dk_42 (dk_at dksX0_foretold_3 10 rfl rfl)
theorem dX0_foretold_82 : decode cX0_foretold 82 = .ok (.getfield 306, 3) := dk_180 1 50 (dk_at dksX0_foretold_3 11 rfl rfl)
theorem dX0_foretold_85 : decode cX0_foretold 85 = .ok (.ireturn, 1) := dk_172 (dk_at dksX0_foretold_3 14 rfl rfl)
abbrev cX0_goes : ByteArray := prog_1_method_46_code
def yX0_goes : MethodName := ⟨RX0, "goes", "(ILHookSwings$Text;I)V"⟩
def dkwX0_goes_5 : List UInt8 := [132, 4, 1, 167, 255, 164, 177]
abbrev dktX0_goes_5 : List UInt8 := dkwX0_goes_5 ++ []
def dkwX0_goes_4 : List UInt8 := [180, 1, 50, 2, 160, 0, 20, 42, 42, 180, 0, 43, 182, 0, 221, 153, 0, 9, 42, 21, 4, 181, 1, 50]
abbrev dktX0_goes_4 : List UInt8 := dkwX0_goes_4 ++ dktX0_goes_5
def dkwX0_goes_3 : List UInt8 := [180, 0, 43, 3, 46, 42, 180, 0, 43, 5, 46, 100, 184, 0, 197, 184, 0, 143, 181, 1, 47, 42]
abbrev dktX0_goes_3 : List UInt8 := dkwX0_goes_3 ++ dktX0_goes_4
def dkwX0_goes_2 : List UInt8 := [180, 0, 43, 44, 182, 0, 207, 182, 0, 203, 21, 4, 29, 161, 0, 30, 42, 42, 180, 1, 47, 42]
abbrev dktX0_goes_2 : List UInt8 := dkwX0_goes_2 ++ dktX0_goes_3
def dkwX0_goes_1 : List UInt8 := [4, 54, 4, 21, 4, 27, 163, 0, 92, 42, 42, 180, 0, 43, 44, 199, 0, 7, 3, 167, 0, 12, 42, 42]
abbrev dktX0_goes_1 : List UInt8 := dkwX0_goes_1 ++ dktX0_goes_2
def dkwX0_goes_0 : List UInt8 := [42, 180, 0, 21, 180, 0, 176, 42, 180, 0, 43, 184, 0, 89, 42, 3, 181, 1, 47, 42, 2, 181, 1, 50]
abbrev dktX0_goes_0 : List UInt8 := dkwX0_goes_0 ++ dktX0_goes_1
theorem dksX0_goes_0 : cX0_goes.data.toList.drop 0 = dktX0_goes_0 := by decide +kernel
theorem dksX0_goes_1 : cX0_goes.data.toList.drop 24 = dktX0_goes_1 := dk_seg dksX0_goes_0 24 rfl rfl
theorem dksX0_goes_2 : cX0_goes.data.toList.drop 48 = dktX0_goes_2 := dk_seg dksX0_goes_1 24 rfl rfl
theorem dksX0_goes_3 : cX0_goes.data.toList.drop 70 = dktX0_goes_3 := dk_seg dksX0_goes_2 22 rfl rfl
theorem dksX0_goes_4 : cX0_goes.data.toList.drop 92 = dktX0_goes_4 := dk_seg dksX0_goes_3 22 rfl rfl
theorem dksX0_goes_5 : cX0_goes.data.toList.drop 116 = dktX0_goes_5 := dk_seg dksX0_goes_4 24 rfl rfl
theorem dX0_goes_0 : decode cX0_goes 0 = .ok (.aload_n 0, 1) := dk_42 (dk_at dksX0_goes_0 0 rfl rfl)
theorem dX0_goes_1 : decode cX0_goes 1 = .ok (.getfield 21, 3) := dk_180 0 21 (dk_at dksX0_goes_0 1 rfl rfl)
theorem dX0_goes_4 : decode cX0_goes 4 = .ok (.getfield 176, 3) := dk_180 0 176 (dk_at dksX0_goes_0 4 rfl rfl)
theorem dX0_goes_7 : decode cX0_goes 7 = .ok (.aload_n 0, 1) := dk_42 (dk_at dksX0_goes_0 7 rfl rfl)
theorem dX0_goes_8 : decode cX0_goes 8 = .ok (.getfield 43, 3) := dk_180 0 43 (dk_at dksX0_goes_0 8 rfl rfl)
theorem dX0_goes_11 : decode cX0_goes 11 = .ok (.invokestatic 89, 3) := dk_184 0 89 (dk_at dksX0_goes_0 11 rfl rfl)
theorem dX0_goes_14 : decode cX0_goes 14 = .ok (.aload_n 0, 1) := dk_42 (dk_at dksX0_goes_0 14 rfl rfl)
theorem dX0_goes_15 : decode cX0_goes 15 = .ok (.iconst 0, 1) := dk_3 (dk_at dksX0_goes_0 15 rfl rfl)
theorem dX0_goes_16 : decode cX0_goes 16 = .ok (.putfield 303, 3) := dk_181 1 47 (dk_at dksX0_goes_0 16 rfl rfl)
theorem dX0_goes_19 : decode cX0_goes 19 = .ok (.aload_n 0, 1) := dk_42 (dk_at dksX0_goes_0 19 rfl rfl)
theorem dX0_goes_20 : decode cX0_goes 20 = .ok (.iconst (-1), 1) := dk_2 (dk_at dksX0_goes_0 20 rfl rfl)
theorem dX0_goes_21 : decode cX0_goes 21 = .ok (.putfield 306, 3) := dk_181 1 50 (dk_at dksX0_goes_0 21 rfl rfl)
theorem dX0_goes_24 : decode cX0_goes 24 = .ok (.iconst 1, 1) := dk_4 (dk_at dksX0_goes_1 0 rfl rfl)
theorem dX0_goes_25 : decode cX0_goes 25 = .ok (.istore 4, 2) := dk_54 4 (dk_at dksX0_goes_1 1 rfl rfl)
theorem dX0_goes_27 : decode cX0_goes 27 = .ok (.iload 4, 2) := dk_21 4 (dk_at dksX0_goes_1 3 rfl rfl)
theorem dX0_goes_29 : decode cX0_goes 29 = .ok (.iload_n 1, 1) := dk_27 (dk_at dksX0_goes_1 5 rfl rfl)
theorem dX0_goes_30 : decode cX0_goes 30 = .ok (.if_icmp .gt 92, 3) := dk_163 0 92 (dk_at dksX0_goes_1 6 rfl rfl)
theorem dX0_goes_33 : decode cX0_goes 33 = .ok (.aload_n 0, 1) := dk_42 (dk_at dksX0_goes_1 9 rfl rfl)
theorem dX0_goes_34 : decode cX0_goes 34 = .ok (.aload_n 0, 1) := dk_42 (dk_at dksX0_goes_1 10 rfl rfl)
theorem dX0_goes_35 : decode cX0_goes 35 = .ok (.getfield 43, 3) := dk_180 0 43 (dk_at dksX0_goes_1 11 rfl rfl)
theorem dX0_goes_38 : decode cX0_goes 38 = .ok (.aload_n 2, 1) := dk_44 (dk_at dksX0_goes_1 14 rfl rfl)
theorem dX0_goes_39 : decode cX0_goes 39 = .ok (.ifnonnull 7, 3) := dk_199 0 7 (dk_at dksX0_goes_1 15 rfl rfl)
theorem dX0_goes_42 : decode cX0_goes 42 = .ok (.iconst 0, 1) := dk_3 (dk_at dksX0_goes_1 18 rfl rfl)
theorem dX0_goes_43 : decode cX0_goes 43 = .ok (.goto 12, 3) := dk_167 0 12 (dk_at dksX0_goes_1 19 rfl rfl)
theorem dX0_goes_46 : decode cX0_goes 46 = .ok (.aload_n 0, 1) := dk_42 (dk_at dksX0_goes_1 22 rfl rfl)
theorem dX0_goes_47 : decode cX0_goes 47 = .ok (.aload_n 0, 1) := dk_42 (dk_at dksX0_goes_1 23 rfl rfl)
theorem dX0_goes_48 : decode cX0_goes 48 = .ok (.getfield 43, 3) := dk_180 0 43 (dk_at dksX0_goes_2 0 rfl rfl)
theorem dX0_goes_51 : decode cX0_goes 51 = .ok (.aload_n 2, 1) := dk_44 (dk_at dksX0_goes_2 3 rfl rfl)
theorem dX0_goes_52 : decode cX0_goes 52 = .ok (.invokevirtual 207, 3) := dk_182 0 207 (dk_at dksX0_goes_2 4 rfl rfl)
theorem dX0_goes_55 : decode cX0_goes 55 = .ok (.invokevirtual 203, 3) := dk_182 0 203 (dk_at dksX0_goes_2 7 rfl rfl)
theorem dX0_goes_58 : decode cX0_goes 58 = .ok (.iload 4, 2) := dk_21 4 (dk_at dksX0_goes_2 10 rfl rfl)
theorem dX0_goes_60 : decode cX0_goes 60 = .ok (.iload_n 3, 1) := dk_29 (dk_at dksX0_goes_2 12 rfl rfl)
theorem dX0_goes_61 : decode cX0_goes 61 = .ok (.if_icmp .lt 30, 3) := dk_161 0 30 (dk_at dksX0_goes_2 13 rfl rfl)
theorem dX0_goes_64 : decode cX0_goes 64 = .ok (.aload_n 0, 1) := dk_42 (dk_at dksX0_goes_2 16 rfl rfl)
theorem dX0_goes_65 : decode cX0_goes 65 = .ok (.aload_n 0, 1) := dk_42 (dk_at dksX0_goes_2 17 rfl rfl)
theorem dX0_goes_66 : decode cX0_goes 66 = .ok (.getfield 303, 3) := dk_180 1 47 (dk_at dksX0_goes_2 18 rfl rfl)
theorem dX0_goes_69 : decode cX0_goes 69 = .ok (.aload_n 0, 1) := dk_42 (dk_at dksX0_goes_2 21 rfl rfl)
theorem dX0_goes_70 : decode cX0_goes 70 = .ok (.getfield 43, 3) := dk_180 0 43 (dk_at dksX0_goes_3 0 rfl rfl)
theorem dX0_goes_73 : decode cX0_goes 73 = .ok (.iconst 0, 1) := dk_3 (dk_at dksX0_goes_3 3 rfl rfl)
theorem dX0_goes_74 : decode cX0_goes 74 = .ok (.iaload, 1) := dk_46 (dk_at dksX0_goes_3 4 rfl rfl)
theorem dX0_goes_75 : decode cX0_goes 75 = .ok (.aload_n 0, 1) := dk_42 (dk_at dksX0_goes_3 5 rfl rfl)
theorem dX0_goes_76 : decode cX0_goes 76 = .ok (.getfield 43, 3) := dk_180 0 43 (dk_at dksX0_goes_3 6 rfl rfl)
theorem dX0_goes_79 : decode cX0_goes 79 = .ok (.iconst 2, 1) := dk_5 (dk_at dksX0_goes_3 9 rfl rfl)
theorem dX0_goes_80 : decode cX0_goes 80 = .ok (.iaload, 1) := dk_46 (dk_at dksX0_goes_3 10 rfl rfl)
theorem dX0_goes_81 : decode cX0_goes 81 = .ok (.isub, 1) := dk_100 (dk_at dksX0_goes_3 11 rfl rfl)
theorem dX0_goes_82 : decode cX0_goes 82 = .ok (.invokestatic 197, 3) := dk_184 0 197 (dk_at dksX0_goes_3 12 rfl rfl)
theorem dX0_goes_85 : decode cX0_goes 85 = .ok (.invokestatic 143, 3) := dk_184 0 143 (dk_at dksX0_goes_3 15 rfl rfl)
theorem dX0_goes_88 : decode cX0_goes 88 = .ok (.putfield 303, 3) := dk_181 1 47 (dk_at dksX0_goes_3 18 rfl rfl)
theorem dX0_goes_91 : decode cX0_goes 91 = .ok (.aload_n 0, 1) := dk_42 (dk_at dksX0_goes_3 21 rfl rfl)
theorem dX0_goes_92 : decode cX0_goes 92 = .ok (.getfield 306, 3) := dk_180 1 50 (dk_at dksX0_goes_4 0 rfl rfl)
theorem dX0_goes_95 : decode cX0_goes 95 = .ok (.iconst (-1), 1) := dk_2 (dk_at dksX0_goes_4 3 rfl rfl)
theorem dX0_goes_96 : decode cX0_goes 96 = .ok (.if_icmp .ne 20, 3) := dk_160 0 20 (dk_at dksX0_goes_4 4 rfl rfl)
theorem dX0_goes_99 : decode cX0_goes 99 = .ok (.aload_n 0, 1) := dk_42 (dk_at dksX0_goes_4 7 rfl rfl)
theorem dX0_goes_100 : decode cX0_goes 100 = .ok (.aload_n 0, 1) := dk_42 (dk_at dksX0_goes_4 8 rfl rfl)
theorem dX0_goes_101 : decode cX0_goes 101 = .ok (.getfield 43, 3) := dk_180 0 43 (dk_at dksX0_goes_4 9 rfl rfl)
theorem dX0_goes_104 : decode cX0_goes 104 = .ok (.invokevirtual 221, 3) := dk_182 0 221 (dk_at dksX0_goes_4 12 rfl rfl)
theorem dX0_goes_107 : decode cX0_goes 107 = .ok (.ifCond .eq 9, 3) := dk_153 0 9 (dk_at dksX0_goes_4 15 rfl rfl)
theorem dX0_goes_110 : decode cX0_goes 110 = .ok (.aload_n 0, 1) := dk_42 (dk_at dksX0_goes_4 18 rfl rfl)
theorem dX0_goes_111 : decode cX0_goes 111 = .ok (.iload 4, 2) := dk_21 4 (dk_at dksX0_goes_4 19 rfl rfl)
theorem dX0_goes_113 : decode cX0_goes 113 = .ok (.putfield 306, 3) := dk_181 1 50 (dk_at dksX0_goes_4 21 rfl rfl)
theorem dX0_goes_116 : decode cX0_goes 116 = .ok (.iinc 4 1, 3) := dk_132 4 1 (dk_at dksX0_goes_5 0 rfl rfl)
theorem dX0_goes_119 : decode cX0_goes 119 = .ok (.goto (-92), 3) := dk_167 255 164 (dk_at dksX0_goes_5 3 rfl rfl)
theorem dX0_goes_122 : decode cX0_goes 122 = .ok (.return_, 1) := dk_177 (dk_at dksX0_goes_5 6 rfl rfl)
abbrev cX0_soonest : ByteArray := prog_1_method_49_code
def yX0_soonest : MethodName := ⟨RX0, "soonest", "(I)I"⟩
def dkwX0_soonest_3 : List UInt8 := [167, 255, 212, 16, 254, 172]
abbrev dktX0_soonest_3 : List UInt8 := dkwX0_soonest_3 ++ []
def dkwX0_soonest_2 : List UInt8 := [167, 0, 19, 27, 28, 162, 0, 12, 42, 180, 0, 51, 27, 46, 167, 0, 5, 16, 254, 172, 132, 2, 1]
abbrev dktX0_soonest_2 : List UInt8 := dkwX0_soonest_2 ++ dktX0_soonest_3
def dkwX0_soonest_1 : List UInt8 := [3, 61, 28, 16, 7, 163, 0, 44, 42, 3, 28, 182, 1, 57, 153, 0, 29, 27, 2, 160, 0, 7, 28]
abbrev dktX0_soonest_1 : List UInt8 := dkwX0_soonest_1 ++ dktX0_soonest_2
def dkwX0_soonest_0 : List UInt8 := [27, 2, 162, 0, 6, 16, 254, 172, 42, 180, 0, 21, 180, 0, 176, 42, 180, 0, 48, 3, 50, 184, 0, 89]
abbrev dktX0_soonest_0 : List UInt8 := dkwX0_soonest_0 ++ dktX0_soonest_1
theorem dksX0_soonest_0 : cX0_soonest.data.toList.drop 0 = dktX0_soonest_0 := by decide +kernel
theorem dksX0_soonest_1 : cX0_soonest.data.toList.drop 24 = dktX0_soonest_1 := dk_seg dksX0_soonest_0 24 rfl rfl
theorem dksX0_soonest_2 : cX0_soonest.data.toList.drop 47 = dktX0_soonest_2 := dk_seg dksX0_soonest_1 23 rfl rfl
theorem dksX0_soonest_3 : cX0_soonest.data.toList.drop 70 = dktX0_soonest_3 := dk_seg dksX0_soonest_2 23 rfl rfl
theorem dX0_soonest_0 : decode cX0_soonest 0 = .ok (.iload_n 1, 1) := dk_27 (dk_at dksX0_soonest_0 0 rfl rfl)
theorem dX0_soonest_1 : decode cX0_soonest 1 = .ok (.iconst (-1), 1) := dk_2 (dk_at dksX0_soonest_0 1 rfl rfl)
theorem dX0_soonest_2 : decode cX0_soonest 2 = .ok (.if_icmp .ge 6, 3) := dk_162 0 6 (dk_at dksX0_soonest_0 2 rfl rfl)
theorem dX0_soonest_5 : decode cX0_soonest 5 = .ok (.bipush (-2), 2) := dk_16 254 (dk_at dksX0_soonest_0 5 rfl rfl)
theorem dX0_soonest_7 : decode cX0_soonest 7 = .ok (.ireturn, 1) := dk_172 (dk_at dksX0_soonest_0 7 rfl rfl)
theorem dX0_soonest_8 : decode cX0_soonest 8 = .ok (.aload_n 0, 1) := dk_42 (dk_at dksX0_soonest_0 8 rfl rfl)
theorem dX0_soonest_9 : decode cX0_soonest 9 = .ok (.getfield 21, 3) := dk_180 0 21 (dk_at dksX0_soonest_0 9 rfl rfl)
theorem dX0_soonest_12 : decode cX0_soonest 12 = .ok (.getfield 176, 3) := dk_180 0 176 (dk_at dksX0_soonest_0 12 rfl rfl)
theorem dX0_soonest_15 : decode cX0_soonest 15 = .ok (.aload_n 0, 1) := dk_42 (dk_at dksX0_soonest_0 15 rfl rfl)
theorem dX0_soonest_16 : decode cX0_soonest 16 = .ok (.getfield 48, 3) := dk_180 0 48 (dk_at dksX0_soonest_0 16 rfl rfl)
theorem dX0_soonest_19 : decode cX0_soonest 19 = .ok (.iconst 0, 1) := dk_3 (dk_at dksX0_soonest_0 19 rfl rfl)
theorem dX0_soonest_20 : decode cX0_soonest 20 = .ok (.aaload, 1) := dk_50 (dk_at dksX0_soonest_0 20 rfl rfl)
theorem dX0_soonest_21 : decode cX0_soonest 21 = .ok (.invokestatic 89, 3) := dk_184 0 89 (dk_at dksX0_soonest_0 21 rfl rfl)
theorem dX0_soonest_24 : decode cX0_soonest 24 = .ok (.iconst 0, 1) := dk_3 (dk_at dksX0_soonest_1 0 rfl rfl)
theorem dX0_soonest_25 : decode cX0_soonest 25 = .ok (.istore_n 2, 1) := dk_61 (dk_at dksX0_soonest_1 1 rfl rfl)
theorem dX0_soonest_26 : decode cX0_soonest 26 = .ok (.iload_n 2, 1) := dk_28 (dk_at dksX0_soonest_1 2 rfl rfl)
theorem dX0_soonest_27 : decode cX0_soonest 27 = .ok (.bipush 7, 2) := dk_16 7 (dk_at dksX0_soonest_1 3 rfl rfl)
theorem dX0_soonest_29 : decode cX0_soonest 29 = .ok (.if_icmp .gt 44, 3) := dk_163 0 44 (dk_at dksX0_soonest_1 5 rfl rfl)
theorem dX0_soonest_32 : decode cX0_soonest 32 = .ok (.aload_n 0, 1) := dk_42 (dk_at dksX0_soonest_1 8 rfl rfl)
theorem dX0_soonest_33 : decode cX0_soonest 33 = .ok (.iconst 0, 1) := dk_3 (dk_at dksX0_soonest_1 9 rfl rfl)
theorem dX0_soonest_34 : decode cX0_soonest 34 = .ok (.iload_n 2, 1) := dk_28 (dk_at dksX0_soonest_1 10 rfl rfl)
theorem dX0_soonest_35 : decode cX0_soonest 35 = .ok (.invokevirtual 313, 3) := dk_182 1 57 (dk_at dksX0_soonest_1 11 rfl rfl)
theorem dX0_soonest_38 : decode cX0_soonest 38 = .ok (.ifCond .eq 29, 3) := dk_153 0 29 (dk_at dksX0_soonest_1 14 rfl rfl)
theorem dX0_soonest_41 : decode cX0_soonest 41 = .ok (.iload_n 1, 1) := dk_27 (dk_at dksX0_soonest_1 17 rfl rfl)
theorem dX0_soonest_42 : decode cX0_soonest 42 = .ok (.iconst (-1), 1) := dk_2 (dk_at dksX0_soonest_1 18 rfl rfl)
theorem dX0_soonest_43 : decode cX0_soonest 43 = .ok (.if_icmp .ne 7, 3) := dk_160 0 7 (dk_at dksX0_soonest_1 19 rfl rfl)
theorem dX0_soonest_46 : decode cX0_soonest 46 = .ok (.iload_n 2, 1) := dk_28 (dk_at dksX0_soonest_1 22 rfl rfl)
theorem dX0_soonest_47 : decode cX0_soonest 47 = .ok (.goto 19, 3) := dk_167 0 19 (dk_at dksX0_soonest_2 0 rfl rfl)
theorem dX0_soonest_50 : decode cX0_soonest 50 = .ok (.iload_n 1, 1) := dk_27 (dk_at dksX0_soonest_2 3 rfl rfl)
theorem dX0_soonest_51 : decode cX0_soonest 51 = .ok (.iload_n 2, 1) := dk_28 (dk_at dksX0_soonest_2 4 rfl rfl)
theorem dX0_soonest_52 : decode cX0_soonest 52 = .ok (.if_icmp .ge 12, 3) := dk_162 0 12 (dk_at dksX0_soonest_2 5 rfl rfl)
theorem dX0_soonest_55 : decode cX0_soonest 55 = .ok (.aload_n 0, 1) := dk_42 (dk_at dksX0_soonest_2 8 rfl rfl)
theorem dX0_soonest_56 : decode cX0_soonest 56 = .ok (.getfield 51, 3) := dk_180 0 51 (dk_at dksX0_soonest_2 9 rfl rfl)
theorem dX0_soonest_59 : decode cX0_soonest 59 = .ok (.iload_n 1, 1) := dk_27 (dk_at dksX0_soonest_2 12 rfl rfl)
theorem dX0_soonest_60 : decode cX0_soonest 60 = .ok (.iaload, 1) := dk_46 (dk_at dksX0_soonest_2 13 rfl rfl)
theorem dX0_soonest_61 : decode cX0_soonest 61 = .ok (.goto 5, 3) := dk_167 0 5 (dk_at dksX0_soonest_2 14 rfl rfl)
theorem dX0_soonest_64 : decode cX0_soonest 64 = .ok (.bipush (-2), 2) := dk_16 254 (dk_at dksX0_soonest_2 17 rfl rfl)
theorem dX0_soonest_66 : decode cX0_soonest 66 = .ok (.ireturn, 1) := dk_172 (dk_at dksX0_soonest_2 19 rfl rfl)
theorem dX0_soonest_67 : decode cX0_soonest 67 = .ok (.iinc 2 1, 3) := dk_132 2 1 (dk_at dksX0_soonest_2 20 rfl rfl)
theorem dX0_soonest_70 : decode cX0_soonest 70 = .ok (.goto (-44), 3) := dk_167 255 212 (dk_at dksX0_soonest_3 0 rfl rfl)
theorem dX0_soonest_73 : decode cX0_soonest 73 = .ok (.bipush (-2), 2) := dk_16 254 (dk_at dksX0_soonest_3 3 rfl rfl)
theorem dX0_soonest_75 : decode cX0_soonest 75 = .ok (.ireturn, 1) := dk_172 (dk_at dksX0_soonest_3 5 rfl rfl)
abbrev cX0_stills : ByteArray := prog_1_method_48_code
def yX0_stills : MethodName := ⟨RX0, "stills", "(II)Z"⟩
def dkwX0_stills_3 : List UInt8 := [172, 132, 3, 1, 167, 255, 198, 3, 172]
abbrev dktX0_stills_3 : List UInt8 := dkwX0_stills_3 ++ []
def dkwX0_stills_2 : List UInt8 := [42, 180, 0, 48, 27, 4, 96, 50, 29, 182, 0, 203, 42, 27, 4, 96, 28, 182, 1, 57, 153, 0, 5, 4]
abbrev dktX0_stills_2 : List UInt8 := dkwX0_stills_2 ++ dktX0_stills_3
def dkwX0_stills_1 : List UInt8 := [180, 0, 51, 27, 29, 79, 42, 180, 0, 48, 27, 50, 42, 180, 0, 48, 27, 4, 96, 50, 184, 0, 89, 42]
abbrev dktX0_stills_1 : List UInt8 := dkwX0_stills_1 ++ dktX0_stills_2
def dkwX0_stills_0 : List UInt8 := [27, 28, 160, 0, 14, 42, 42, 180, 0, 48, 27, 50, 182, 0, 221, 172, 2, 62, 29, 5, 162, 0, 59, 42]
abbrev dktX0_stills_0 : List UInt8 := dkwX0_stills_0 ++ dktX0_stills_1
theorem dksX0_stills_0 : cX0_stills.data.toList.drop 0 = dktX0_stills_0 := by decide +kernel
theorem dksX0_stills_1 : cX0_stills.data.toList.drop 24 = dktX0_stills_1 := dk_seg dksX0_stills_0 24 rfl rfl
theorem dksX0_stills_2 : cX0_stills.data.toList.drop 48 = dktX0_stills_2 := dk_seg dksX0_stills_1 24 rfl rfl
theorem dksX0_stills_3 : cX0_stills.data.toList.drop 72 = dktX0_stills_3 := dk_seg dksX0_stills_2 24 rfl rfl
theorem dX0_stills_0 : decode cX0_stills 0 = .ok (.iload_n 1, 1) := dk_27 (dk_at dksX0_stills_0 0 rfl rfl)
theorem dX0_stills_1 : decode cX0_stills 1 = .ok (.iload_n 2, 1) := dk_28 (dk_at dksX0_stills_0 1 rfl rfl)
theorem dX0_stills_2 : decode cX0_stills 2 = .ok (.if_icmp .ne 14, 3) := dk_160 0 14 (dk_at dksX0_stills_0 2 rfl rfl)
theorem dX0_stills_5 : decode cX0_stills 5 = .ok (.aload_n 0, 1) := dk_42 (dk_at dksX0_stills_0 5 rfl rfl)
theorem dX0_stills_6 : decode cX0_stills 6 = .ok (.aload_n 0, 1) := dk_42 (dk_at dksX0_stills_0 6 rfl rfl)
theorem dX0_stills_7 : decode cX0_stills 7 = .ok (.getfield 48, 3) := dk_180 0 48 (dk_at dksX0_stills_0 7 rfl rfl)
theorem dX0_stills_10 : decode cX0_stills 10 = .ok (.iload_n 1, 1) := dk_27 (dk_at dksX0_stills_0 10 rfl rfl)
theorem dX0_stills_11 : decode cX0_stills 11 = .ok (.aaload, 1) := dk_50 (dk_at dksX0_stills_0 11 rfl rfl)
theorem dX0_stills_12 : decode cX0_stills 12 = .ok (.invokevirtual 221, 3) := dk_182 0 221 (dk_at dksX0_stills_0 12 rfl rfl)
theorem dX0_stills_15 : decode cX0_stills 15 = .ok (.ireturn, 1) := dk_172 (dk_at dksX0_stills_0 15 rfl rfl)
theorem dX0_stills_16 : decode cX0_stills 16 = .ok (.iconst (-1), 1) := dk_2 (dk_at dksX0_stills_0 16 rfl rfl)
theorem dX0_stills_17 : decode cX0_stills 17 = .ok (.istore_n 3, 1) := dk_62 (dk_at dksX0_stills_0 17 rfl rfl)
theorem dX0_stills_18 : decode cX0_stills 18 = .ok (.iload_n 3, 1) := dk_29 (dk_at dksX0_stills_0 18 rfl rfl)
theorem dX0_stills_19 : decode cX0_stills 19 = .ok (.iconst 2, 1) := dk_5 (dk_at dksX0_stills_0 19 rfl rfl)
theorem dX0_stills_20 : decode cX0_stills 20 = .ok (.if_icmp .ge 59, 3) := dk_162 0 59 (dk_at dksX0_stills_0 20 rfl rfl)
theorem dX0_stills_23 : decode cX0_stills 23 = .ok (.aload_n 0, 1) := dk_42 (dk_at dksX0_stills_0 23 rfl rfl)
theorem dX0_stills_24 : decode cX0_stills 24 = .ok (.getfield 51, 3) := dk_180 0 51 (dk_at dksX0_stills_1 0 rfl rfl)
theorem dX0_stills_27 : decode cX0_stills 27 = .ok (.iload_n 1, 1) := dk_27 (dk_at dksX0_stills_1 3 rfl rfl)
theorem dX0_stills_28 : decode cX0_stills 28 = .ok (.iload_n 3, 1) := dk_29 (dk_at dksX0_stills_1 4 rfl rfl)
theorem dX0_stills_29 : decode cX0_stills 29 = .ok (.iastore, 1) := dk_79 (dk_at dksX0_stills_1 5 rfl rfl)
theorem dX0_stills_30 : decode cX0_stills 30 = .ok (.aload_n 0, 1) := dk_42 (dk_at dksX0_stills_1 6 rfl rfl)
theorem dX0_stills_31 : decode cX0_stills 31 = .ok (.getfield 48, 3) := dk_180 0 48 (dk_at dksX0_stills_1 7 rfl rfl)
theorem dX0_stills_34 : decode cX0_stills 34 = .ok (.iload_n 1, 1) := dk_27 (dk_at dksX0_stills_1 10 rfl rfl)
theorem dX0_stills_35 : decode cX0_stills 35 = .ok (.aaload, 1) := dk_50 (dk_at dksX0_stills_1 11 rfl rfl)
theorem dX0_stills_36 : decode cX0_stills 36 = .ok (.aload_n 0, 1) := dk_42 (dk_at dksX0_stills_1 12 rfl rfl)
theorem dX0_stills_37 : decode cX0_stills 37 = .ok (.getfield 48, 3) := dk_180 0 48 (dk_at dksX0_stills_1 13 rfl rfl)
theorem dX0_stills_40 : decode cX0_stills 40 = .ok (.iload_n 1, 1) := dk_27 (dk_at dksX0_stills_1 16 rfl rfl)
theorem dX0_stills_41 : decode cX0_stills 41 = .ok (.iconst 1, 1) := dk_4 (dk_at dksX0_stills_1 17 rfl rfl)
theorem dX0_stills_42 : decode cX0_stills 42 = .ok (.iadd, 1) := dk_96 (dk_at dksX0_stills_1 18 rfl rfl)
theorem dX0_stills_43 : decode cX0_stills 43 = .ok (.aaload, 1) := dk_50 (dk_at dksX0_stills_1 19 rfl rfl)
theorem dX0_stills_44 : decode cX0_stills 44 = .ok (.invokestatic 89, 3) := dk_184 0 89 (dk_at dksX0_stills_1 20 rfl rfl)
theorem dX0_stills_47 : decode cX0_stills 47 = .ok (.aload_n 0, 1) := dk_42 (dk_at dksX0_stills_1 23 rfl rfl)
theorem dX0_stills_48 : decode cX0_stills 48 = .ok (.aload_n 0, 1) := dk_42 (dk_at dksX0_stills_2 0 rfl rfl)
theorem dX0_stills_49 : decode cX0_stills 49 = .ok (.getfield 48, 3) := dk_180 0 48 (dk_at dksX0_stills_2 1 rfl rfl)
theorem dX0_stills_52 : decode cX0_stills 52 = .ok (.iload_n 1, 1) := dk_27 (dk_at dksX0_stills_2 4 rfl rfl)
theorem dX0_stills_53 : decode cX0_stills 53 = .ok (.iconst 1, 1) := dk_4 (dk_at dksX0_stills_2 5 rfl rfl)
theorem dX0_stills_54 : decode cX0_stills 54 = .ok (.iadd, 1) := dk_96 (dk_at dksX0_stills_2 6 rfl rfl)
theorem dX0_stills_55 : decode cX0_stills 55 = .ok (.aaload, 1) := dk_50 (dk_at dksX0_stills_2 7 rfl rfl)
theorem dX0_stills_56 : decode cX0_stills 56 = .ok (.iload_n 3, 1) := dk_29 (dk_at dksX0_stills_2 8 rfl rfl)
theorem dX0_stills_57 : decode cX0_stills 57 = .ok (.invokevirtual 203, 3) := dk_182 0 203 (dk_at dksX0_stills_2 9 rfl rfl)
theorem dX0_stills_60 : decode cX0_stills 60 = .ok (.aload_n 0, 1) := dk_42 (dk_at dksX0_stills_2 12 rfl rfl)
theorem dX0_stills_61 : decode cX0_stills 61 = .ok (.iload_n 1, 1) := dk_27 (dk_at dksX0_stills_2 13 rfl rfl)
theorem dX0_stills_62 : decode cX0_stills 62 = .ok (.iconst 1, 1) := dk_4 (dk_at dksX0_stills_2 14 rfl rfl)
theorem dX0_stills_63 : decode cX0_stills 63 = .ok (.iadd, 1) := dk_96 (dk_at dksX0_stills_2 15 rfl rfl)
theorem dX0_stills_64 : decode cX0_stills 64 = .ok (.iload_n 2, 1) := dk_28 (dk_at dksX0_stills_2 16 rfl rfl)
theorem dX0_stills_65 : decode cX0_stills 65 = .ok (.invokevirtual 313, 3) := dk_182 1 57 (dk_at dksX0_stills_2 17 rfl rfl)
theorem dX0_stills_68 : decode cX0_stills 68 = .ok (.ifCond .eq 5, 3) := dk_153 0 5 (dk_at dksX0_stills_2 20 rfl rfl)
theorem dX0_stills_71 : decode cX0_stills 71 = .ok (.iconst 1, 1) := dk_4 (dk_at dksX0_stills_2 23 rfl rfl)
theorem dX0_stills_72 : decode cX0_stills 72 = .ok (.ireturn, 1) := dk_172 (dk_at dksX0_stills_3 0 rfl rfl)
theorem dX0_stills_73 : decode cX0_stills 73 = .ok (.iinc 3 1, 3) := dk_132 3 1 (dk_at dksX0_stills_3 1 rfl rfl)
theorem dX0_stills_76 : decode cX0_stills 76 = .ok (.goto (-58), 3) := dk_167 255 198 (dk_at dksX0_stills_3 4 rfl rfl)
theorem dX0_stills_79 : decode cX0_stills 79 = .ok (.iconst 0, 1) := dk_3 (dk_at dksX0_stills_3 7 rfl rfl)
theorem dX0_stills_80 : decode cX0_stills 80 = .ok (.ireturn, 1) := dk_172 (dk_at dksX0_stills_3 8 rfl rfl)
abbrev cX0_fewest : ByteArray := prog_1_method_51_code
def yX0_fewest : MethodName := ⟨RX0, "fewest", "(I)I"⟩
def dkwX0_fewest_3 : List UInt8 := [27, 46, 167, 0, 5, 16, 254, 172, 132, 3, 1, 167, 255, 208, 132, 2, 1, 167, 255, 194, 16, 254, 172]
abbrev dktX0_fewest_3 : List UInt8 := dkwX0_fewest_3 ++ []
def dkwX0_fewest_2 : List UInt8 := [154, 0, 6, 167, 0, 29, 27, 2, 160, 0, 7, 28, 167, 0, 19, 27, 29, 162, 0, 12, 42, 180, 0, 51]
abbrev dktX0_fewest_2 : List UInt8 := dkwX0_fewest_2 ++ dktX0_fewest_3
def dkwX0_fewest_1 : List UInt8 := [3, 61, 28, 16, 7, 163, 0, 62, 28, 62, 29, 16, 7, 163, 0, 48, 42, 3, 29, 28, 182, 1, 60]
abbrev dktX0_fewest_1 : List UInt8 := dkwX0_fewest_1 ++ dktX0_fewest_2
def dkwX0_fewest_0 : List UInt8 := [27, 2, 162, 0, 6, 16, 254, 172, 42, 180, 0, 21, 180, 0, 176, 42, 180, 0, 48, 3, 50, 184, 0, 89]
abbrev dktX0_fewest_0 : List UInt8 := dkwX0_fewest_0 ++ dktX0_fewest_1
theorem dksX0_fewest_0 : cX0_fewest.data.toList.drop 0 = dktX0_fewest_0 := by decide +kernel
theorem dksX0_fewest_1 : cX0_fewest.data.toList.drop 24 = dktX0_fewest_1 := dk_seg dksX0_fewest_0 24 rfl rfl
theorem dksX0_fewest_2 : cX0_fewest.data.toList.drop 47 = dktX0_fewest_2 := dk_seg dksX0_fewest_1 23 rfl rfl
theorem dksX0_fewest_3 : cX0_fewest.data.toList.drop 71 = dktX0_fewest_3 := dk_seg dksX0_fewest_2 24 rfl rfl
theorem dX0_fewest_0 : decode cX0_fewest 0 = .ok (.iload_n 1, 1) := dk_27 (dk_at dksX0_fewest_0 0 rfl rfl)
theorem dX0_fewest_1 : decode cX0_fewest 1 = .ok (.iconst (-1), 1) := dk_2 (dk_at dksX0_fewest_0 1 rfl rfl)
theorem dX0_fewest_2 : decode cX0_fewest 2 = .ok (.if_icmp .ge 6, 3) := dk_162 0 6 (dk_at dksX0_fewest_0 2 rfl rfl)
theorem dX0_fewest_5 : decode cX0_fewest 5 = .ok (.bipush (-2), 2) := dk_16 254 (dk_at dksX0_fewest_0 5 rfl rfl)
theorem dX0_fewest_7 : decode cX0_fewest 7 = .ok (.ireturn, 1) := dk_172 (dk_at dksX0_fewest_0 7 rfl rfl)
theorem dX0_fewest_8 : decode cX0_fewest 8 = .ok (.aload_n 0, 1) := dk_42 (dk_at dksX0_fewest_0 8 rfl rfl)
theorem dX0_fewest_9 : decode cX0_fewest 9 = .ok (.getfield 21, 3) := dk_180 0 21 (dk_at dksX0_fewest_0 9 rfl rfl)
theorem dX0_fewest_12 : decode cX0_fewest 12 = .ok (.getfield 176, 3) := dk_180 0 176 (dk_at dksX0_fewest_0 12 rfl rfl)
theorem dX0_fewest_15 : decode cX0_fewest 15 = .ok (.aload_n 0, 1) := dk_42 (dk_at dksX0_fewest_0 15 rfl rfl)
theorem dX0_fewest_16 : decode cX0_fewest 16 = .ok (.getfield 48, 3) := dk_180 0 48 (dk_at dksX0_fewest_0 16 rfl rfl)
theorem dX0_fewest_19 : decode cX0_fewest 19 = .ok (.iconst 0, 1) := dk_3 (dk_at dksX0_fewest_0 19 rfl rfl)
theorem dX0_fewest_20 : decode cX0_fewest 20 = .ok (.aaload, 1) := dk_50 (dk_at dksX0_fewest_0 20 rfl rfl)
theorem dX0_fewest_21 : decode cX0_fewest 21 = .ok (.invokestatic 89, 3) := dk_184 0 89 (dk_at dksX0_fewest_0 21 rfl rfl)
theorem dX0_fewest_24 : decode cX0_fewest 24 = .ok (.iconst 0, 1) := dk_3 (dk_at dksX0_fewest_1 0 rfl rfl)
theorem dX0_fewest_25 : decode cX0_fewest 25 = .ok (.istore_n 2, 1) := dk_61 (dk_at dksX0_fewest_1 1 rfl rfl)
theorem dX0_fewest_26 : decode cX0_fewest 26 = .ok (.iload_n 2, 1) := dk_28 (dk_at dksX0_fewest_1 2 rfl rfl)
theorem dX0_fewest_27 : decode cX0_fewest 27 = .ok (.bipush 7, 2) := dk_16 7 (dk_at dksX0_fewest_1 3 rfl rfl)
theorem dX0_fewest_29 : decode cX0_fewest 29 = .ok (.if_icmp .gt 62, 3) := dk_163 0 62 (dk_at dksX0_fewest_1 5 rfl rfl)
theorem dX0_fewest_32 : decode cX0_fewest 32 = .ok (.iload_n 2, 1) := dk_28 (dk_at dksX0_fewest_1 8 rfl rfl)
theorem dX0_fewest_33 : decode cX0_fewest 33 = .ok (.istore_n 3, 1) := dk_62 (dk_at dksX0_fewest_1 9 rfl rfl)
theorem dX0_fewest_34 : decode cX0_fewest 34 = .ok (.iload_n 3, 1) := dk_29 (dk_at dksX0_fewest_1 10 rfl rfl)
theorem dX0_fewest_35 : decode cX0_fewest 35 = .ok (.bipush 7, 2) := dk_16 7 (dk_at dksX0_fewest_1 11 rfl rfl)
theorem dX0_fewest_37 : decode cX0_fewest 37 = .ok (.if_icmp .gt 48, 3) := dk_163 0 48 (dk_at dksX0_fewest_1 13 rfl rfl)
theorem dX0_fewest_40 : decode cX0_fewest 40 = .ok (.aload_n 0, 1) := dk_42 (dk_at dksX0_fewest_1 16 rfl rfl)
theorem dX0_fewest_41 : decode cX0_fewest 41 = .ok (.iconst 0, 1) := dk_3 (dk_at dksX0_fewest_1 17 rfl rfl)
theorem dX0_fewest_42 : decode cX0_fewest 42 = .ok (.iload_n 3, 1) := dk_29 (dk_at dksX0_fewest_1 18 rfl rfl)
theorem dX0_fewest_43 : decode cX0_fewest 43 = .ok (.iload_n 2, 1) := dk_28 (dk_at dksX0_fewest_1 19 rfl rfl)
theorem dX0_fewest_44 : decode cX0_fewest 44 = .ok (.invokevirtual 316, 3) := dk_182 1 60 (dk_at dksX0_fewest_1 20 rfl rfl)
theorem dX0_fewest_47 : decode cX0_fewest 47 = .ok (.ifCond .ne 6, 3) := dk_154 0 6 (dk_at dksX0_fewest_2 0 rfl rfl)
theorem dX0_fewest_50 : decode cX0_fewest 50 = .ok (.goto 29, 3) := dk_167 0 29 (dk_at dksX0_fewest_2 3 rfl rfl)
theorem dX0_fewest_53 : decode cX0_fewest 53 = .ok (.iload_n 1, 1) := dk_27 (dk_at dksX0_fewest_2 6 rfl rfl)
theorem dX0_fewest_54 : decode cX0_fewest 54 = .ok (.iconst (-1), 1) := dk_2 (dk_at dksX0_fewest_2 7 rfl rfl)
theorem dX0_fewest_55 : decode cX0_fewest 55 = .ok (.if_icmp .ne 7, 3) := dk_160 0 7 (dk_at dksX0_fewest_2 8 rfl rfl)
theorem dX0_fewest_58 : decode cX0_fewest 58 = .ok (.iload_n 2, 1) := dk_28 (dk_at dksX0_fewest_2 11 rfl rfl)
theorem dX0_fewest_59 : decode cX0_fewest 59 = .ok (.goto 19, 3) := dk_167 0 19 (dk_at dksX0_fewest_2 12 rfl rfl)
theorem dX0_fewest_62 : decode cX0_fewest 62 = .ok (.iload_n 1, 1) := dk_27 (dk_at dksX0_fewest_2 15 rfl rfl)
theorem dX0_fewest_63 : decode cX0_fewest 63 = .ok (.iload_n 3, 1) := dk_29 (dk_at dksX0_fewest_2 16 rfl rfl)
theorem dX0_fewest_64 : decode cX0_fewest 64 = .ok (.if_icmp .ge 12, 3) := dk_162 0 12 (dk_at dksX0_fewest_2 17 rfl rfl)
theorem dX0_fewest_67 : decode cX0_fewest 67 = .ok (.aload_n 0, 1) := dk_42 (dk_at dksX0_fewest_2 20 rfl rfl)
theorem dX0_fewest_68 : decode cX0_fewest 68 = .ok (.getfield 51, 3) := dk_180 0 51 (dk_at dksX0_fewest_2 21 rfl rfl)
theorem dX0_fewest_71 : decode cX0_fewest 71 = .ok (.iload_n 1, 1) := dk_27 (dk_at dksX0_fewest_3 0 rfl rfl)
theorem dX0_fewest_72 : decode cX0_fewest 72 = .ok (.iaload, 1) := dk_46 (dk_at dksX0_fewest_3 1 rfl rfl)
theorem dX0_fewest_73 : decode cX0_fewest 73 = .ok (.goto 5, 3) := dk_167 0 5 (dk_at dksX0_fewest_3 2 rfl rfl)
theorem dX0_fewest_76 : decode cX0_fewest 76 = .ok (.bipush (-2), 2) := dk_16 254 (dk_at dksX0_fewest_3 5 rfl rfl)
theorem dX0_fewest_78 : decode cX0_fewest 78 = .ok (.ireturn, 1) := dk_172 (dk_at dksX0_fewest_3 7 rfl rfl)
theorem dX0_fewest_79 : decode cX0_fewest 79 = .ok (.iinc 3 1, 3) := dk_132 3 1 (dk_at dksX0_fewest_3 8 rfl rfl)
theorem dX0_fewest_82 : decode cX0_fewest 82 = .ok (.goto (-48), 3) := dk_167 255 208 (dk_at dksX0_fewest_3 11 rfl rfl)
theorem dX0_fewest_85 : decode cX0_fewest 85 = .ok (.iinc 2 1, 3) := dk_132 2 1 (dk_at dksX0_fewest_3 14 rfl rfl)
theorem dX0_fewest_88 : decode cX0_fewest 88 = .ok (.goto (-62), 3) := dk_167 255 194 (dk_at dksX0_fewest_3 17 rfl rfl)
theorem dX0_fewest_91 : decode cX0_fewest 91 = .ok (.bipush (-2), 2) := dk_16 254 (dk_at dksX0_fewest_3 20 rfl rfl)
theorem dX0_fewest_93 : decode cX0_fewest 93 = .ok (.ireturn, 1) := dk_172 (dk_at dksX0_fewest_3 22 rfl rfl)
abbrev cX0_stillsBy : ByteArray := prog_1_method_50_code
def yX0_stillsBy : MethodName := ⟨RX0, "stillsBy", "(III)Z"⟩
def dkwX0_stillsBy_5 : List UInt8 := [153, 0, 5, 4, 172, 132, 4, 1, 167, 255, 161, 3, 172]
abbrev dktX0_stillsBy_5 : List UInt8 := dkwX0_stillsBy_5 ++ []
def dkwX0_stillsBy_4 : List UInt8 := [42, 42, 180, 0, 48, 27, 4, 96, 50, 21, 4, 182, 0, 203, 42, 27, 4, 96, 28, 21, 5, 182, 1, 60]
abbrev dktX0_stillsBy_4 : List UInt8 := dkwX0_stillsBy_4 ++ dktX0_stillsBy_5
def dkwX0_stillsBy_3 : List UInt8 := [180, 0, 51, 27, 21, 4, 79, 42, 180, 0, 48, 27, 50, 42, 180, 0, 48, 27, 4, 96, 50, 184, 0, 89]
abbrev dktX0_stillsBy_3 : List UInt8 := dkwX0_stillsBy_3 ++ dktX0_stillsBy_4
def dkwX0_stillsBy_2 : List UInt8 := [4, 100, 54, 5, 21, 5, 155, 0, 70, 21, 5, 28, 27, 100, 4, 100, 164, 0, 6, 167, 0, 57, 42]
abbrev dktX0_stillsBy_2 : List UInt8 := dkwX0_stillsBy_2 ++ dktX0_stillsBy_3
def dkwX0_stillsBy_1 : List UInt8 := [167, 0, 4, 3, 172, 2, 54, 4, 21, 4, 5, 162, 0, 95, 29, 21, 4, 154, 0, 7, 3, 167, 0, 4]
abbrev dktX0_stillsBy_1 : List UInt8 := dkwX0_stillsBy_1 ++ dktX0_stillsBy_2
def dkwX0_stillsBy_0 : List UInt8 := [27, 28, 160, 0, 26, 29, 154, 0, 20, 42, 42, 180, 0, 48, 27, 50, 182, 0, 221, 153, 0, 7, 4]
abbrev dktX0_stillsBy_0 : List UInt8 := dkwX0_stillsBy_0 ++ dktX0_stillsBy_1
theorem dksX0_stillsBy_0 : cX0_stillsBy.data.toList.drop 0 = dktX0_stillsBy_0 := by decide +kernel
theorem dksX0_stillsBy_1 : cX0_stillsBy.data.toList.drop 23 = dktX0_stillsBy_1 := dk_seg dksX0_stillsBy_0 23 rfl rfl
theorem dksX0_stillsBy_2 : cX0_stillsBy.data.toList.drop 47 = dktX0_stillsBy_2 := dk_seg dksX0_stillsBy_1 24 rfl rfl
theorem dksX0_stillsBy_3 : cX0_stillsBy.data.toList.drop 70 = dktX0_stillsBy_3 := dk_seg dksX0_stillsBy_2 23 rfl rfl
theorem dksX0_stillsBy_4 : cX0_stillsBy.data.toList.drop 94 = dktX0_stillsBy_4 := dk_seg dksX0_stillsBy_3 24 rfl rfl
theorem dksX0_stillsBy_5 : cX0_stillsBy.data.toList.drop 118 = dktX0_stillsBy_5 := dk_seg dksX0_stillsBy_4 24 rfl rfl
theorem dX0_stillsBy_0 : decode cX0_stillsBy 0 = .ok (.iload_n 1, 1) := dk_27 (dk_at dksX0_stillsBy_0 0 rfl rfl)
theorem dX0_stillsBy_1 : decode cX0_stillsBy 1 = .ok (.iload_n 2, 1) := dk_28 (dk_at dksX0_stillsBy_0 1 rfl rfl)
theorem dX0_stillsBy_2 : decode cX0_stillsBy 2 = .ok (.if_icmp .ne 26, 3) := dk_160 0 26 (dk_at dksX0_stillsBy_0 2 rfl rfl)
theorem dX0_stillsBy_5 : decode cX0_stillsBy 5 = .ok (.iload_n 3, 1) := dk_29 (dk_at dksX0_stillsBy_0 5 rfl rfl)
theorem dX0_stillsBy_6 : decode cX0_stillsBy 6 = .ok (.ifCond .ne 20, 3) := dk_154 0 20 (dk_at dksX0_stillsBy_0 6 rfl rfl)
theorem dX0_stillsBy_9 : decode cX0_stillsBy 9 = .ok (.aload_n 0, 1) := dk_42 (dk_at dksX0_stillsBy_0 9 rfl rfl)
theorem dX0_stillsBy_10 : decode cX0_stillsBy 10 = .ok (.aload_n 0, 1) := dk_42 (dk_at dksX0_stillsBy_0 10 rfl rfl)
theorem dX0_stillsBy_11 : decode cX0_stillsBy 11 = .ok (.getfield 48, 3) := dk_180 0 48 (dk_at dksX0_stillsBy_0 11 rfl rfl)
theorem dX0_stillsBy_14 : decode cX0_stillsBy 14 = .ok (.iload_n 1, 1) := dk_27 (dk_at dksX0_stillsBy_0 14 rfl rfl)
theorem dX0_stillsBy_15 : decode cX0_stillsBy 15 = .ok (.aaload, 1) := dk_50 (dk_at dksX0_stillsBy_0 15 rfl rfl)
theorem dX0_stillsBy_16 : decode cX0_stillsBy 16 = .ok (.invokevirtual 221, 3) := dk_182 0 221 (dk_at dksX0_stillsBy_0 16 rfl rfl)
theorem dX0_stillsBy_19 : decode cX0_stillsBy 19 = .ok (.ifCond .eq 7, 3) := dk_153 0 7 (dk_at dksX0_stillsBy_0 19 rfl rfl)
theorem dX0_stillsBy_22 : decode cX0_stillsBy 22 = .ok (.iconst 1, 1) := dk_4 (dk_at dksX0_stillsBy_0 22 rfl rfl)
theorem dX0_stillsBy_23 : decode cX0_stillsBy 23 = .ok (.goto 4, 3) := dk_167 0 4 (dk_at dksX0_stillsBy_1 0 rfl rfl)
theorem dX0_stillsBy_26 : decode cX0_stillsBy 26 = .ok (.iconst 0, 1) := dk_3 (dk_at dksX0_stillsBy_1 3 rfl rfl)
theorem dX0_stillsBy_27 : decode cX0_stillsBy 27 = .ok (.ireturn, 1) := dk_172 (dk_at dksX0_stillsBy_1 4 rfl rfl)
theorem dX0_stillsBy_28 : decode cX0_stillsBy 28 = .ok (.iconst (-1), 1) := dk_2 (dk_at dksX0_stillsBy_1 5 rfl rfl)
theorem dX0_stillsBy_29 : decode cX0_stillsBy 29 = .ok (.istore 4, 2) := dk_54 4 (dk_at dksX0_stillsBy_1 6 rfl rfl)
theorem dX0_stillsBy_31 : decode cX0_stillsBy 31 = .ok (.iload 4, 2) := dk_21 4 (dk_at dksX0_stillsBy_1 8 rfl rfl)
theorem dX0_stillsBy_33 : decode cX0_stillsBy 33 = .ok (.iconst 2, 1) := dk_5 (dk_at dksX0_stillsBy_1 10 rfl rfl)
theorem dX0_stillsBy_34 : decode cX0_stillsBy 34 = .ok (.if_icmp .ge 95, 3) := dk_162 0 95 (dk_at dksX0_stillsBy_1 11 rfl rfl)
theorem dX0_stillsBy_37 : decode cX0_stillsBy 37 = .ok (.iload_n 3, 1) := dk_29 (dk_at dksX0_stillsBy_1 14 rfl rfl)
theorem dX0_stillsBy_38 : decode cX0_stillsBy 38 = .ok (.iload 4, 2) := dk_21 4 (dk_at dksX0_stillsBy_1 15 rfl rfl)
theorem dX0_stillsBy_40 : decode cX0_stillsBy 40 = .ok (.ifCond .ne 7, 3) := dk_154 0 7 (dk_at dksX0_stillsBy_1 17 rfl rfl)
theorem dX0_stillsBy_43 : decode cX0_stillsBy 43 = .ok (.iconst 0, 1) := dk_3 (dk_at dksX0_stillsBy_1 20 rfl rfl)
theorem dX0_stillsBy_44 : decode cX0_stillsBy 44 = .ok (.goto 4, 3) := dk_167 0 4 (dk_at dksX0_stillsBy_1 21 rfl rfl)
theorem dX0_stillsBy_47 : decode cX0_stillsBy 47 = .ok (.iconst 1, 1) := dk_4 (dk_at dksX0_stillsBy_2 0 rfl rfl)
theorem dX0_stillsBy_48 : decode cX0_stillsBy 48 = .ok (.isub, 1) := dk_100 (dk_at dksX0_stillsBy_2 1 rfl rfl)
theorem dX0_stillsBy_49 : decode cX0_stillsBy 49 = .ok (.istore 5, 2) := dk_54 5 (dk_at dksX0_stillsBy_2 2 rfl rfl)
theorem dX0_stillsBy_51 : decode cX0_stillsBy 51 = .ok (.iload 5, 2) := dk_21 5 (dk_at dksX0_stillsBy_2 4 rfl rfl)
theorem dX0_stillsBy_53 : decode cX0_stillsBy 53 = .ok (.ifCond .lt 70, 3) := dk_155 0 70 (dk_at dksX0_stillsBy_2 6 rfl rfl)
theorem dX0_stillsBy_56 : decode cX0_stillsBy 56 = .ok (.iload 5, 2) := dk_21 5 (dk_at dksX0_stillsBy_2 9 rfl rfl)
theorem dX0_stillsBy_58 : decode cX0_stillsBy 58 = .ok (.iload_n 2, 1) := dk_28 (dk_at dksX0_stillsBy_2 11 rfl rfl)
theorem dX0_stillsBy_59 : decode cX0_stillsBy 59 = .ok (.iload_n 1, 1) := dk_27 (dk_at dksX0_stillsBy_2 12 rfl rfl)
theorem dX0_stillsBy_60 : decode cX0_stillsBy 60 = .ok (.isub, 1) := dk_100 (dk_at dksX0_stillsBy_2 13 rfl rfl)
theorem dX0_stillsBy_61 : decode cX0_stillsBy 61 = .ok (.iconst 1, 1) := dk_4 (dk_at dksX0_stillsBy_2 14 rfl rfl)
theorem dX0_stillsBy_62 : decode cX0_stillsBy 62 = .ok (.isub, 1) := dk_100 (dk_at dksX0_stillsBy_2 15 rfl rfl)
theorem dX0_stillsBy_63 : decode cX0_stillsBy 63 = .ok (.if_icmp .le 6, 3) := dk_164 0 6 (dk_at dksX0_stillsBy_2 16 rfl rfl)
theorem dX0_stillsBy_66 : decode cX0_stillsBy 66 = .ok (.goto 57, 3) := dk_167 0 57 (dk_at dksX0_stillsBy_2 19 rfl rfl)
theorem dX0_stillsBy_69 : decode cX0_stillsBy 69 = .ok (.aload_n 0, 1) := dk_42 (dk_at dksX0_stillsBy_2 22 rfl rfl)
theorem dX0_stillsBy_70 : decode cX0_stillsBy 70 = .ok (.getfield 51, 3) := dk_180 0 51 (dk_at dksX0_stillsBy_3 0 rfl rfl)
theorem dX0_stillsBy_73 : decode cX0_stillsBy 73 = .ok (.iload_n 1, 1) := dk_27 (dk_at dksX0_stillsBy_3 3 rfl rfl)
theorem dX0_stillsBy_74 : decode cX0_stillsBy 74 = .ok (.iload 4, 2) := dk_21 4 (dk_at dksX0_stillsBy_3 4 rfl rfl)
theorem dX0_stillsBy_76 : decode cX0_stillsBy 76 = .ok (.iastore, 1) := dk_79 (dk_at dksX0_stillsBy_3 6 rfl rfl)
theorem dX0_stillsBy_77 : decode cX0_stillsBy 77 = .ok (.aload_n 0, 1) := dk_42 (dk_at dksX0_stillsBy_3 7 rfl rfl)
theorem dX0_stillsBy_78 : decode cX0_stillsBy 78 = .ok (.getfield 48, 3) := dk_180 0 48 (dk_at dksX0_stillsBy_3 8 rfl rfl)
theorem dX0_stillsBy_81 : decode cX0_stillsBy 81 = .ok (.iload_n 1, 1) := dk_27 (dk_at dksX0_stillsBy_3 11 rfl rfl)
theorem dX0_stillsBy_82 : decode cX0_stillsBy 82 = .ok (.aaload, 1) := dk_50 (dk_at dksX0_stillsBy_3 12 rfl rfl)
theorem dX0_stillsBy_83 : decode cX0_stillsBy 83 = .ok (.aload_n 0, 1) := dk_42 (dk_at dksX0_stillsBy_3 13 rfl rfl)
theorem dX0_stillsBy_84 : decode cX0_stillsBy 84 = .ok (.getfield 48, 3) := dk_180 0 48 (dk_at dksX0_stillsBy_3 14 rfl rfl)
theorem dX0_stillsBy_87 : decode cX0_stillsBy 87 = .ok (.iload_n 1, 1) := dk_27 (dk_at dksX0_stillsBy_3 17 rfl rfl)
theorem dX0_stillsBy_88 : decode cX0_stillsBy 88 = .ok (.iconst 1, 1) := dk_4 (dk_at dksX0_stillsBy_3 18 rfl rfl)
theorem dX0_stillsBy_89 : decode cX0_stillsBy 89 = .ok (.iadd, 1) := dk_96 (dk_at dksX0_stillsBy_3 19 rfl rfl)
theorem dX0_stillsBy_90 : decode cX0_stillsBy 90 = .ok (.aaload, 1) := dk_50 (dk_at dksX0_stillsBy_3 20 rfl rfl)
theorem dX0_stillsBy_91 : decode cX0_stillsBy 91 = .ok (.invokestatic 89, 3) := dk_184 0 89 (dk_at dksX0_stillsBy_3 21 rfl rfl)
theorem dX0_stillsBy_94 : decode cX0_stillsBy 94 = .ok (.aload_n 0, 1) := dk_42 (dk_at dksX0_stillsBy_4 0 rfl rfl)
theorem dX0_stillsBy_95 : decode cX0_stillsBy 95 = .ok (.aload_n 0, 1) := dk_42 (dk_at dksX0_stillsBy_4 1 rfl rfl)
theorem dX0_stillsBy_96 : decode cX0_stillsBy 96 = .ok (.getfield 48, 3) := dk_180 0 48 (dk_at dksX0_stillsBy_4 2 rfl rfl)
theorem dX0_stillsBy_99 : decode cX0_stillsBy 99 = .ok (.iload_n 1, 1) := dk_27 (dk_at dksX0_stillsBy_4 5 rfl rfl)
theorem dX0_stillsBy_100 : decode cX0_stillsBy 100 = .ok (.iconst 1, 1) := dk_4 (dk_at dksX0_stillsBy_4 6 rfl rfl)
theorem dX0_stillsBy_101 : decode cX0_stillsBy 101 = .ok (.iadd, 1) := dk_96 (dk_at dksX0_stillsBy_4 7 rfl rfl)
theorem dX0_stillsBy_102 : decode cX0_stillsBy 102 = .ok (.aaload, 1) := dk_50 (dk_at dksX0_stillsBy_4 8 rfl rfl)
theorem dX0_stillsBy_103 : decode cX0_stillsBy 103 = .ok (.iload 4, 2) := dk_21 4 (dk_at dksX0_stillsBy_4 9 rfl rfl)
theorem dX0_stillsBy_105 : decode cX0_stillsBy 105 = .ok (.invokevirtual 203, 3) := dk_182 0 203 (dk_at dksX0_stillsBy_4 11 rfl rfl)
theorem dX0_stillsBy_108 : decode cX0_stillsBy 108 = .ok (.aload_n 0, 1) := dk_42 (dk_at dksX0_stillsBy_4 14 rfl rfl)
theorem dX0_stillsBy_109 : decode cX0_stillsBy 109 = .ok (.iload_n 1, 1) := dk_27 (dk_at dksX0_stillsBy_4 15 rfl rfl)
theorem dX0_stillsBy_110 : decode cX0_stillsBy 110 = .ok (.iconst 1, 1) := dk_4 (dk_at dksX0_stillsBy_4 16 rfl rfl)
theorem dX0_stillsBy_111 : decode cX0_stillsBy 111 = .ok (.iadd, 1) := dk_96 (dk_at dksX0_stillsBy_4 17 rfl rfl)
theorem dX0_stillsBy_112 : decode cX0_stillsBy 112 = .ok (.iload_n 2, 1) := dk_28 (dk_at dksX0_stillsBy_4 18 rfl rfl)
theorem dX0_stillsBy_113 : decode cX0_stillsBy 113 = .ok (.iload 5, 2) := dk_21 5 (dk_at dksX0_stillsBy_4 19 rfl rfl)
theorem dX0_stillsBy_115 : decode cX0_stillsBy 115 = .ok (.invokevirtual 316, 3) := dk_182 1 60 (dk_at dksX0_stillsBy_4 21 rfl rfl)
theorem dX0_stillsBy_118 : decode cX0_stillsBy 118 = .ok (.ifCond .eq 5, 3) := dk_153 0 5 (dk_at dksX0_stillsBy_5 0 rfl rfl)
theorem dX0_stillsBy_121 : decode cX0_stillsBy 121 = .ok (.iconst 1, 1) := dk_4 (dk_at dksX0_stillsBy_5 3 rfl rfl)
theorem dX0_stillsBy_122 : decode cX0_stillsBy 122 = .ok (.ireturn, 1) := dk_172 (dk_at dksX0_stillsBy_5 4 rfl rfl)
theorem dX0_stillsBy_123 : decode cX0_stillsBy 123 = .ok (.iinc 4 1, 3) := dk_132 4 1 (dk_at dksX0_stillsBy_5 5 rfl rfl)
theorem dX0_stillsBy_126 : decode cX0_stillsBy 126 = .ok (.goto (-95), 3) := dk_167 255 161 (dk_at dksX0_stillsBy_5 8 rfl rfl)
theorem dX0_stillsBy_129 : decode cX0_stillsBy 129 = .ok (.iconst 0, 1) := dk_3 (dk_at dksX0_stillsBy_5 11 rfl rfl)
theorem dX0_stillsBy_130 : decode cX0_stillsBy 130 = .ok (.ireturn, 1) := dk_172 (dk_at dksX0_stillsBy_5 12 rfl rfl)
abbrev cX0_toAndFro : ByteArray := prog_1_method_52_code
def yX0_toAndFro : MethodName := ⟨RX0, "toAndFro", "(I)I"⟩
def dkwX0_toAndFro_4 : List UInt8 := [132, 3, 1, 167, 255, 189, 2, 172]
abbrev dktX0_toAndFro_4 : List UInt8 := dkwX0_toAndFro_4 ++ []
def dkwX0_toAndFro_3 : List UInt8 := [180, 0, 43, 5, 46, 100, 157, 0, 6, 167, 0, 14, 28, 2, 159, 0, 7, 29, 28, 100, 172, 29, 61]
abbrev dktX0_toAndFro_3 : List UInt8 := dkwX0_toAndFro_3 ++ dktX0_toAndFro_4
def dkwX0_toAndFro_2 : List UInt8 := [100, 54, 4, 42, 42, 180, 0, 43, 3, 182, 0, 203, 21, 4, 157, 0, 33, 42, 180, 0, 43, 3, 46, 42]
abbrev dktX0_toAndFro_2 : List UInt8 := dkwX0_toAndFro_2 ++ dktX0_toAndFro_3
def dkwX0_toAndFro_1 : List UInt8 := [184, 0, 89, 2, 61, 4, 62, 29, 27, 163, 0, 68, 42, 180, 0, 43, 3, 46, 42, 180, 0, 43, 5, 46]
abbrev dktX0_toAndFro_1 : List UInt8 := dkwX0_toAndFro_1 ++ dktX0_toAndFro_2
def dkwX0_toAndFro_0 : List UInt8 := [27, 5, 17, 0, 200, 184, 0, 82, 154, 0, 5, 2, 172, 42, 180, 0, 21, 180, 0, 176, 42, 180, 0, 43]
abbrev dktX0_toAndFro_0 : List UInt8 := dkwX0_toAndFro_0 ++ dktX0_toAndFro_1
theorem dksX0_toAndFro_0 : cX0_toAndFro.data.toList.drop 0 = dktX0_toAndFro_0 := by decide +kernel
theorem dksX0_toAndFro_1 : cX0_toAndFro.data.toList.drop 24 = dktX0_toAndFro_1 := dk_seg dksX0_toAndFro_0 24 rfl rfl
theorem dksX0_toAndFro_2 : cX0_toAndFro.data.toList.drop 48 = dktX0_toAndFro_2 := dk_seg dksX0_toAndFro_1 24 rfl rfl
theorem dksX0_toAndFro_3 : cX0_toAndFro.data.toList.drop 72 = dktX0_toAndFro_3 := dk_seg dksX0_toAndFro_2 24 rfl rfl
theorem dksX0_toAndFro_4 : cX0_toAndFro.data.toList.drop 95 = dktX0_toAndFro_4 := dk_seg dksX0_toAndFro_3 23 rfl rfl
theorem dX0_toAndFro_0 : decode cX0_toAndFro 0 = .ok (.iload_n 1, 1) := dk_27 (dk_at dksX0_toAndFro_0 0 rfl rfl)
theorem dX0_toAndFro_1 : decode cX0_toAndFro 1 = .ok (.iconst 2, 1) := dk_5 (dk_at dksX0_toAndFro_0 1 rfl rfl)
theorem dX0_toAndFro_2 : decode cX0_toAndFro 2 = .ok (.sipush 200, 3) := dk_17 0 200 (dk_at dksX0_toAndFro_0 2 rfl rfl)
theorem dX0_toAndFro_5 : decode cX0_toAndFro 5 = .ok (.invokestatic 82, 3) := dk_184 0 82 (dk_at dksX0_toAndFro_0 5 rfl rfl)
theorem dX0_toAndFro_8 : decode cX0_toAndFro 8 = .ok (.ifCond .ne 5, 3) := dk_154 0 5 (dk_at dksX0_toAndFro_0 8 rfl rfl)
theorem dX0_toAndFro_11 : decode cX0_toAndFro 11 = .ok (.iconst (-1), 1) := dk_2 (dk_at dksX0_toAndFro_0 11 rfl rfl)
theorem dX0_toAndFro_12 : decode cX0_toAndFro 12 = .ok (.ireturn, 1) := dk_172 (dk_at dksX0_toAndFro_0 12 rfl rfl)
theorem dX0_toAndFro_13 : decode cX0_toAndFro 13 = .ok (.aload_n 0, 1) := dk_42 (dk_at dksX0_toAndFro_0 13 rfl rfl)
theorem dX0_toAndFro_14 : decode cX0_toAndFro 14 = .ok (.getfield 21, 3) := dk_180 0 21 (dk_at dksX0_toAndFro_0 14 rfl rfl)
theorem dX0_toAndFro_17 : decode cX0_toAndFro 17 = .ok (.getfield 176, 3) := dk_180 0 176 (dk_at dksX0_toAndFro_0 17 rfl rfl)
theorem dX0_toAndFro_20 : decode cX0_toAndFro 20 = .ok (.aload_n 0, 1) := dk_42 (dk_at dksX0_toAndFro_0 20 rfl rfl)
theorem dX0_toAndFro_21 : decode cX0_toAndFro 21 = .ok (.getfield 43, 3) := dk_180 0 43 (dk_at dksX0_toAndFro_0 21 rfl rfl)
theorem dX0_toAndFro_24 : decode cX0_toAndFro 24 = .ok (.invokestatic 89, 3) := dk_184 0 89 (dk_at dksX0_toAndFro_1 0 rfl rfl)
theorem dX0_toAndFro_27 : decode cX0_toAndFro 27 = .ok (.iconst (-1), 1) := dk_2 (dk_at dksX0_toAndFro_1 3 rfl rfl)
theorem dX0_toAndFro_28 : decode cX0_toAndFro 28 = .ok (.istore_n 2, 1) := dk_61 (dk_at dksX0_toAndFro_1 4 rfl rfl)
theorem dX0_toAndFro_29 : decode cX0_toAndFro 29 = .ok (.iconst 1, 1) := dk_4 (dk_at dksX0_toAndFro_1 5 rfl rfl)
theorem dX0_toAndFro_30 : decode cX0_toAndFro 30 = .ok (.istore_n 3, 1) := dk_62 (dk_at dksX0_toAndFro_1 6 rfl rfl)
theorem dX0_toAndFro_31 : decode cX0_toAndFro 31 = .ok (.iload_n 3, 1) := dk_29 (dk_at dksX0_toAndFro_1 7 rfl rfl)
theorem dX0_toAndFro_32 : decode cX0_toAndFro 32 = .ok (.iload_n 1, 1) := dk_27 (dk_at dksX0_toAndFro_1 8 rfl rfl)
theorem dX0_toAndFro_33 : decode cX0_toAndFro 33 = .ok (.if_icmp .gt 68, 3) := dk_163 0 68 (dk_at dksX0_toAndFro_1 9 rfl rfl)
theorem dX0_toAndFro_36 : decode cX0_toAndFro 36 = .ok (.aload_n 0, 1) := dk_42 (dk_at dksX0_toAndFro_1 12 rfl rfl)
theorem dX0_toAndFro_37 : decode cX0_toAndFro 37 = .ok (.getfield 43, 3) := dk_180 0 43 (dk_at dksX0_toAndFro_1 13 rfl rfl)
theorem dX0_toAndFro_40 : decode cX0_toAndFro 40 = .ok (.iconst 0, 1) := dk_3 (dk_at dksX0_toAndFro_1 16 rfl rfl)
theorem dX0_toAndFro_41 : decode cX0_toAndFro 41 = .ok (.iaload, 1) := dk_46 (dk_at dksX0_toAndFro_1 17 rfl rfl)
theorem dX0_toAndFro_42 : decode cX0_toAndFro 42 = .ok (.aload_n 0, 1) := dk_42 (dk_at dksX0_toAndFro_1 18 rfl rfl)
theorem dX0_toAndFro_43 : decode cX0_toAndFro 43 = .ok (.getfield 43, 3) := dk_180 0 43 (dk_at dksX0_toAndFro_1 19 rfl rfl)
theorem dX0_toAndFro_46 : decode cX0_toAndFro 46 = .ok (.iconst 2, 1) := dk_5 (dk_at dksX0_toAndFro_1 22 rfl rfl)
theorem dX0_toAndFro_47 : decode cX0_toAndFro 47 = .ok (.iaload, 1) := dk_46 (dk_at dksX0_toAndFro_1 23 rfl rfl)
theorem dX0_toAndFro_48 : decode cX0_toAndFro 48 = .ok (.isub, 1) := dk_100 (dk_at dksX0_toAndFro_2 0 rfl rfl)
theorem dX0_toAndFro_49 : decode cX0_toAndFro 49 = .ok (.istore 4, 2) := dk_54 4 (dk_at dksX0_toAndFro_2 1 rfl rfl)
theorem dX0_toAndFro_51 : decode cX0_toAndFro 51 = .ok (.aload_n 0, 1) := dk_42 (dk_at dksX0_toAndFro_2 3 rfl rfl)
theorem dX0_toAndFro_52 : decode cX0_toAndFro 52 = .ok (.aload_n 0, 1) := dk_42 (dk_at dksX0_toAndFro_2 4 rfl rfl)
theorem dX0_toAndFro_53 : decode cX0_toAndFro 53 = .ok (.getfield 43, 3) := dk_180 0 43 (dk_at dksX0_toAndFro_2 5 rfl rfl)
theorem dX0_toAndFro_56 : decode cX0_toAndFro 56 = .ok (.iconst 0, 1) := dk_3 (dk_at dksX0_toAndFro_2 8 rfl rfl)
theorem dX0_toAndFro_57 : decode cX0_toAndFro 57 = .ok (.invokevirtual 203, 3) := dk_182 0 203 (dk_at dksX0_toAndFro_2 9 rfl rfl)
theorem dX0_toAndFro_60 : decode cX0_toAndFro 60 = .ok (.iload 4, 2) := dk_21 4 (dk_at dksX0_toAndFro_2 12 rfl rfl)
theorem dX0_toAndFro_62 : decode cX0_toAndFro 62 = .ok (.ifCond .gt 33, 3) := dk_157 0 33 (dk_at dksX0_toAndFro_2 14 rfl rfl)
theorem dX0_toAndFro_65 : decode cX0_toAndFro 65 = .ok (.aload_n 0, 1) := dk_42 (dk_at dksX0_toAndFro_2 17 rfl rfl)
theorem dX0_toAndFro_66 : decode cX0_toAndFro 66 = .ok (.getfield 43, 3) := dk_180 0 43 (dk_at dksX0_toAndFro_2 18 rfl rfl)
theorem dX0_toAndFro_69 : decode cX0_toAndFro 69 = .ok (.iconst 0, 1) := dk_3 (dk_at dksX0_toAndFro_2 21 rfl rfl)
theorem dX0_toAndFro_70 : decode cX0_toAndFro 70 = .ok (.iaload, 1) := dk_46 (dk_at dksX0_toAndFro_2 22 rfl rfl)
theorem dX0_toAndFro_71 : decode cX0_toAndFro 71 = .ok (.aload_n 0, 1) := dk_42 (dk_at dksX0_toAndFro_2 23 rfl rfl)
theorem dX0_toAndFro_72 : decode cX0_toAndFro 72 = .ok (.getfield 43, 3) := dk_180 0 43 (dk_at dksX0_toAndFro_3 0 rfl rfl)
theorem dX0_toAndFro_75 : decode cX0_toAndFro 75 = .ok (.iconst 2, 1) := dk_5 (dk_at dksX0_toAndFro_3 3 rfl rfl)
theorem dX0_toAndFro_76 : decode cX0_toAndFro 76 = .ok (.iaload, 1) := dk_46 (dk_at dksX0_toAndFro_3 4 rfl rfl)
theorem dX0_toAndFro_77 : decode cX0_toAndFro 77 = .ok (.isub, 1) := dk_100 (dk_at dksX0_toAndFro_3 5 rfl rfl)
theorem dX0_toAndFro_78 : decode cX0_toAndFro 78 = .ok (.ifCond .gt 6, 3) := dk_157 0 6 (dk_at dksX0_toAndFro_3 6 rfl rfl)
theorem dX0_toAndFro_81 : decode cX0_toAndFro 81 = .ok (.goto 14, 3) := dk_167 0 14 (dk_at dksX0_toAndFro_3 9 rfl rfl)
theorem dX0_toAndFro_84 : decode cX0_toAndFro 84 = .ok (.iload_n 2, 1) := dk_28 (dk_at dksX0_toAndFro_3 12 rfl rfl)
theorem dX0_toAndFro_85 : decode cX0_toAndFro 85 = .ok (.iconst (-1), 1) := dk_2 (dk_at dksX0_toAndFro_3 13 rfl rfl)
theorem dX0_toAndFro_86 : decode cX0_toAndFro 86 = .ok (.if_icmp .eq 7, 3) := dk_159 0 7 (dk_at dksX0_toAndFro_3 14 rfl rfl)
theorem dX0_toAndFro_89 : decode cX0_toAndFro 89 = .ok (.iload_n 3, 1) := dk_29 (dk_at dksX0_toAndFro_3 17 rfl rfl)
theorem dX0_toAndFro_90 : decode cX0_toAndFro 90 = .ok (.iload_n 2, 1) := dk_28 (dk_at dksX0_toAndFro_3 18 rfl rfl)
theorem dX0_toAndFro_91 : decode cX0_toAndFro 91 = .ok (.isub, 1) := dk_100 (dk_at dksX0_toAndFro_3 19 rfl rfl)
theorem dX0_toAndFro_92 : decode cX0_toAndFro 92 = .ok (.ireturn, 1) := dk_172 (dk_at dksX0_toAndFro_3 20 rfl rfl)
theorem dX0_toAndFro_93 : decode cX0_toAndFro 93 = .ok (.iload_n 3, 1) := dk_29 (dk_at dksX0_toAndFro_3 21 rfl rfl)
theorem dX0_toAndFro_94 : decode cX0_toAndFro 94 = .ok (.istore_n 2, 1) := dk_61 (dk_at dksX0_toAndFro_3 22 rfl rfl)
theorem dX0_toAndFro_95 : decode cX0_toAndFro 95 = .ok (.iinc 3 1, 3) := dk_132 3 1 (dk_at dksX0_toAndFro_4 0 rfl rfl)
theorem dX0_toAndFro_98 : decode cX0_toAndFro 98 = .ok (.goto (-67), 3) := dk_167 255 189 (dk_at dksX0_toAndFro_4 3 rfl rfl)
theorem dX0_toAndFro_101 : decode cX0_toAndFro 101 = .ok (.iconst (-1), 1) := dk_2 (dk_at dksX0_toAndFro_4 6 rfl rfl)
theorem dX0_toAndFro_102 : decode cX0_toAndFro 102 = .ok (.ireturn, 1) := dk_172 (dk_at dksX0_toAndFro_4 7 rfl rfl)
abbrev cX0_calm : ByteArray := prog_1_method_55_code
def yX0_calm : MethodName := ⟨RX0, "calm", "(IIZ)J"⟩
def dkwX0_calm_1 : List UInt8 := [27, 184, 1, 63, 20, 1, 70, 27, 184, 1, 63, 29, 184, 1, 72, 167, 0, 6, 20, 1, 76, 173]
abbrev dktX0_calm_1 : List UInt8 := dkwX0_calm_1 ++ []
def dkwX0_calm_0 : List UInt8 := [27, 4, 16, 9, 184, 0, 82, 153, 0, 35, 28, 3, 16, 9, 184, 0, 82, 153, 0, 25, 28, 133, 10, 97]
abbrev dktX0_calm_0 : List UInt8 := dkwX0_calm_0 ++ dktX0_calm_1
theorem dksX0_calm_0 : cX0_calm.data.toList.drop 0 = dktX0_calm_0 := by decide +kernel
theorem dksX0_calm_1 : cX0_calm.data.toList.drop 24 = dktX0_calm_1 := dk_seg dksX0_calm_0 24 rfl rfl
theorem dX0_calm_0 : decode cX0_calm 0 = .ok (.iload_n 1, 1) := dk_27 (dk_at dksX0_calm_0 0 rfl rfl)
theorem dX0_calm_1 : decode cX0_calm 1 = .ok (.iconst 1, 1) := dk_4 (dk_at dksX0_calm_0 1 rfl rfl)
theorem dX0_calm_2 : decode cX0_calm 2 = .ok (.bipush 9, 2) := dk_16 9 (dk_at dksX0_calm_0 2 rfl rfl)
theorem dX0_calm_4 : decode cX0_calm 4 = .ok (.invokestatic 82, 3) := dk_184 0 82 (dk_at dksX0_calm_0 4 rfl rfl)
theorem dX0_calm_7 : decode cX0_calm 7 = .ok (.ifCond .eq 35, 3) := dk_153 0 35 (dk_at dksX0_calm_0 7 rfl rfl)
theorem dX0_calm_10 : decode cX0_calm 10 = .ok (.iload_n 2, 1) := dk_28 (dk_at dksX0_calm_0 10 rfl rfl)
theorem dX0_calm_11 : decode cX0_calm 11 = .ok (.iconst 0, 1) := dk_3 (dk_at dksX0_calm_0 11 rfl rfl)
theorem dX0_calm_12 : decode cX0_calm 12 = .ok (.bipush 9, 2) := dk_16 9 (dk_at dksX0_calm_0 12 rfl rfl)
theorem dX0_calm_14 : decode cX0_calm 14 = .ok (.invokestatic 82, 3) := dk_184 0 82 (dk_at dksX0_calm_0 14 rfl rfl)
theorem dX0_calm_17 : decode cX0_calm 17 = .ok (.ifCond .eq 25, 3) := dk_153 0 25 (dk_at dksX0_calm_0 17 rfl rfl)
theorem dX0_calm_20 : decode cX0_calm 20 = .ok (.iload_n 2, 1) := dk_28 (dk_at dksX0_calm_0 20 rfl rfl)
theorem dX0_calm_21 : decode cX0_calm 21 = .ok (.i2l, 1) := dk_133 (dk_at dksX0_calm_0 21 rfl rfl)
theorem dX0_calm_22 : decode cX0_calm 22 = .ok (.lconst 1, 1) := dk_10 (dk_at dksX0_calm_0 22 rfl rfl)
theorem dX0_calm_23 : decode cX0_calm 23 = .ok (.ladd, 1) := dk_97 (dk_at dksX0_calm_0 23 rfl rfl)
theorem dX0_calm_24 : decode cX0_calm 24 = .ok (.iload_n 1, 1) := dk_27 (dk_at dksX0_calm_1 0 rfl rfl)
theorem dX0_calm_25 : decode cX0_calm 25 = .ok (.invokestatic 319, 3) := dk_184 1 63 (dk_at dksX0_calm_1 1 rfl rfl)
theorem dX0_calm_28 : decode cX0_calm 28 = .ok (.ldc2_w 326, 3) := dk_20 1 70 (dk_at dksX0_calm_1 4 rfl rfl)
theorem dX0_calm_31 : decode cX0_calm 31 = .ok (.iload_n 1, 1) := dk_27 (dk_at dksX0_calm_1 7 rfl rfl)
theorem dX0_calm_32 : decode cX0_calm 32 = .ok (.invokestatic 319, 3) := dk_184 1 63 (dk_at dksX0_calm_1 8 rfl rfl)
theorem dX0_calm_35 : decode cX0_calm 35 = .ok (.iload_n 3, 1) := dk_29 (dk_at dksX0_calm_1 11 rfl rfl)
theorem dX0_calm_36 : decode cX0_calm 36 = .ok (.invokestatic 328, 3) := dk_184 1 72 (dk_at dksX0_calm_1 12 rfl rfl)
theorem dX0_calm_39 : decode cX0_calm 39 = .ok (.goto 6, 3) := dk_167 0 6 (dk_at dksX0_calm_1 15 rfl rfl)
theorem dX0_calm_42 : decode cX0_calm 42 = .ok (.ldc2_w 332, 3) := dk_20 1 76 (dk_at dksX0_calm_1 18 rfl rfl)
theorem dX0_calm_45 : decode cX0_calm 45 = .ok (.lreturn, 1) := dk_173 (dk_at dksX0_calm_1 21 rfl rfl)
abbrev cX0_power : ByteArray := prog_1_method_53_code
def yX0_power : MethodName := ⟨RX0, "power", "(JI)J"⟩
def dkwX0_power_0 : List UInt8 := [28, 154, 0, 7, 10, 167, 0, 12, 30, 30, 28, 4, 100, 184, 1, 63, 105, 173]
abbrev dktX0_power_0 : List UInt8 := dkwX0_power_0 ++ []
theorem dksX0_power_0 : cX0_power.data.toList.drop 0 = dktX0_power_0 := by decide +kernel
theorem dX0_power_0 : decode cX0_power 0 = .ok (.iload_n 2, 1) := dk_28 (dk_at dksX0_power_0 0 rfl rfl)
theorem dX0_power_1 : decode cX0_power 1 = .ok (.ifCond .ne 7, 3) := dk_154 0 7 (dk_at dksX0_power_0 1 rfl rfl)
theorem dX0_power_4 : decode cX0_power 4 = .ok (.lconst 1, 1) := dk_10 (dk_at dksX0_power_0 4 rfl rfl)
theorem dX0_power_5 : decode cX0_power 5 = .ok (.goto 12, 3) := dk_167 0 12 (dk_at dksX0_power_0 5 rfl rfl)
theorem dX0_power_8 : decode cX0_power 8 = .ok (.lload_n 0, 1) := dk_30 (dk_at dksX0_power_0 8 rfl rfl)
theorem dX0_power_9 : decode cX0_power 9 = .ok (.lload_n 0, 1) := dk_30 (dk_at dksX0_power_0 9 rfl rfl)
theorem dX0_power_10 : decode cX0_power 10 = .ok (.iload_n 2, 1) := dk_28 (dk_at dksX0_power_0 10 rfl rfl)
theorem dX0_power_11 : decode cX0_power 11 = .ok (.iconst 1, 1) := dk_4 (dk_at dksX0_power_0 11 rfl rfl)
theorem dX0_power_12 : decode cX0_power 12 = .ok (.isub, 1) := dk_100 (dk_at dksX0_power_0 12 rfl rfl)
theorem dX0_power_13 : decode cX0_power 13 = .ok (.invokestatic 319, 3) := dk_184 1 63 (dk_at dksX0_power_0 13 rfl rfl)
theorem dX0_power_16 : decode cX0_power 16 = .ok (.lmul, 1) := dk_105 (dk_at dksX0_power_0 16 rfl rfl)
theorem dX0_power_17 : decode cX0_power 17 = .ok (.lreturn, 1) := dk_173 (dk_at dksX0_power_0 17 rfl rfl)
abbrev cX0_inLowest : ByteArray := prog_1_method_54_code
def yX0_inLowest : MethodName := ⟨RX0, "inLowest", "(JJZ)J"⟩
def dkwX0_inLowest_0 : List UInt8 := [32, 30, 184, 1, 67, 55, 5, 21, 4, 153, 0, 10, 32, 22, 5, 109, 167, 0, 7, 30, 22, 5, 109, 173]
abbrev dktX0_inLowest_0 : List UInt8 := dkwX0_inLowest_0 ++ []
theorem dksX0_inLowest_0 : cX0_inLowest.data.toList.drop 0 = dktX0_inLowest_0 := by decide +kernel
theorem dX0_inLowest_0 : decode cX0_inLowest 0 = .ok (.lload_n 2, 1) := dk_32 (dk_at dksX0_inLowest_0 0 rfl rfl)
theorem dX0_inLowest_1 : decode cX0_inLowest 1 = .ok (.lload_n 0, 1) := dk_30 (dk_at dksX0_inLowest_0 1 rfl rfl)
theorem dX0_inLowest_2 : decode cX0_inLowest 2 = .ok (.invokestatic 323, 3) := dk_184 1 67 (dk_at dksX0_inLowest_0 2 rfl rfl)
theorem dX0_inLowest_5 : decode cX0_inLowest 5 = .ok (.lstore 5, 2) := dk_55 5 (dk_at dksX0_inLowest_0 5 rfl rfl)
theorem dX0_inLowest_7 : decode cX0_inLowest 7 = .ok (.iload 4, 2) := dk_21 4 (dk_at dksX0_inLowest_0 7 rfl rfl)
theorem dX0_inLowest_9 : decode cX0_inLowest 9 = .ok (.ifCond .eq 10, 3) := dk_153 0 10 (dk_at dksX0_inLowest_0 9 rfl rfl)
theorem dX0_inLowest_12 : decode cX0_inLowest 12 = .ok (.lload_n 2, 1) := dk_32 (dk_at dksX0_inLowest_0 12 rfl rfl)
theorem dX0_inLowest_13 : decode cX0_inLowest 13 = .ok (.lload 5, 2) := dk_22 5 (dk_at dksX0_inLowest_0 13 rfl rfl)
theorem dX0_inLowest_15 : decode cX0_inLowest 15 = .ok (.ldiv, 1) := dk_109 (dk_at dksX0_inLowest_0 15 rfl rfl)
theorem dX0_inLowest_16 : decode cX0_inLowest 16 = .ok (.goto 7, 3) := dk_167 0 7 (dk_at dksX0_inLowest_0 16 rfl rfl)
theorem dX0_inLowest_19 : decode cX0_inLowest 19 = .ok (.lload_n 0, 1) := dk_30 (dk_at dksX0_inLowest_0 19 rfl rfl)
theorem dX0_inLowest_20 : decode cX0_inLowest 20 = .ok (.lload 5, 2) := dk_22 5 (dk_at dksX0_inLowest_0 20 rfl rfl)
theorem dX0_inLowest_22 : decode cX0_inLowest 22 = .ok (.ldiv, 1) := dk_109 (dk_at dksX0_inLowest_0 22 rfl rfl)
theorem dX0_inLowest_23 : decode cX0_inLowest 23 = .ok (.lreturn, 1) := dk_173 (dk_at dksX0_inLowest_0 23 rfl rfl)
abbrev cX0_common : ByteArray := prog_1_method_79_code
def yX0_common : MethodName := ⟨RX0, "common", "(JJ)J"⟩
def dkwX0_common_0 : List UInt8 := [32, 9, 148, 154, 0, 7, 30, 167, 0, 10, 32, 30, 32, 113, 184, 1, 67, 173]
abbrev dktX0_common_0 : List UInt8 := dkwX0_common_0 ++ []
theorem dksX0_common_0 : cX0_common.data.toList.drop 0 = dktX0_common_0 := by decide +kernel
theorem dX0_common_0 : decode cX0_common 0 = .ok (.lload_n 2, 1) := dk_32 (dk_at dksX0_common_0 0 rfl rfl)
theorem dX0_common_1 : decode cX0_common 1 = .ok (.lconst 0, 1) := dk_9 (dk_at dksX0_common_0 1 rfl rfl)
theorem dX0_common_2 : decode cX0_common 2 = .ok (.lcmp, 1) := dk_148 (dk_at dksX0_common_0 2 rfl rfl)
theorem dX0_common_3 : decode cX0_common 3 = .ok (.ifCond .ne 7, 3) := dk_154 0 7 (dk_at dksX0_common_0 3 rfl rfl)
theorem dX0_common_6 : decode cX0_common 6 = .ok (.lload_n 0, 1) := dk_30 (dk_at dksX0_common_0 6 rfl rfl)
theorem dX0_common_7 : decode cX0_common 7 = .ok (.goto 10, 3) := dk_167 0 10 (dk_at dksX0_common_0 7 rfl rfl)
theorem dX0_common_10 : decode cX0_common 10 = .ok (.lload_n 2, 1) := dk_32 (dk_at dksX0_common_0 10 rfl rfl)
theorem dX0_common_11 : decode cX0_common 11 = .ok (.lload_n 0, 1) := dk_30 (dk_at dksX0_common_0 11 rfl rfl)
theorem dX0_common_12 : decode cX0_common 12 = .ok (.lload_n 2, 1) := dk_32 (dk_at dksX0_common_0 12 rfl rfl)
theorem dX0_common_13 : decode cX0_common 13 = .ok (.lrem, 1) := dk_113 (dk_at dksX0_common_0 13 rfl rfl)
theorem dX0_common_14 : decode cX0_common 14 = .ok (.invokestatic 323, 3) := dk_184 1 67 (dk_at dksX0_common_0 14 rfl rfl)
theorem dX0_common_17 : decode cX0_common 17 = .ok (.lreturn, 1) := dk_173 (dk_at dksX0_common_0 17 rfl rfl)
abbrev cX0_dies : ByteArray := prog_1_method_56_code
def yX0_dies : MethodName := ⟨RX0, "dies", "(II)I"⟩
def dkwX0_dies_4 : List UInt8 := [172]
abbrev dktX0_dies_4 : List UInt8 := dkwX0_dies_4 ++ []
def dkwX0_dies_3 : List UInt8 := [180, 1, 47, 29, 162, 0, 7, 2, 167, 0, 16, 42, 180, 1, 47, 29, 164, 0, 7, 4, 167, 0, 4, 3]
abbrev dktX0_dies_3 : List UInt8 := dkwX0_dies_3 ++ dktX0_dies_4
def dkwX0_dies_2 : List UInt8 := [180, 1, 47, 62, 42, 28, 42, 180, 0, 21, 180, 0, 100, 27, 50, 28, 5, 108, 4, 96, 182, 1, 53, 42]
abbrev dktX0_dies_2 : List UInt8 := dkwX0_dies_2 ++ dktX0_dies_3
def dkwX0_dies_1 : List UInt8 := [160, 0, 6, 16, 254, 172, 42, 28, 5, 108, 42, 180, 0, 21, 180, 0, 100, 27, 50, 4, 182, 1, 53, 42]
abbrev dktX0_dies_1 : List UInt8 := dkwX0_dies_1 ++ dktX0_dies_2
def dkwX0_dies_0 : List UInt8 := [42, 27, 182, 0, 119, 153, 0, 21, 28, 5, 17, 0, 200, 184, 0, 82, 153, 0, 10, 28, 5, 112, 4]
abbrev dktX0_dies_0 : List UInt8 := dkwX0_dies_0 ++ dktX0_dies_1
theorem dksX0_dies_0 : cX0_dies.data.toList.drop 0 = dktX0_dies_0 := by decide +kernel
theorem dksX0_dies_1 : cX0_dies.data.toList.drop 23 = dktX0_dies_1 := dk_seg dksX0_dies_0 23 rfl rfl
theorem dksX0_dies_2 : cX0_dies.data.toList.drop 47 = dktX0_dies_2 := dk_seg dksX0_dies_1 24 rfl rfl
theorem dksX0_dies_3 : cX0_dies.data.toList.drop 71 = dktX0_dies_3 := dk_seg dksX0_dies_2 24 rfl rfl
theorem dksX0_dies_4 : cX0_dies.data.toList.drop 95 = dktX0_dies_4 := dk_seg dksX0_dies_3 24 rfl rfl
theorem dX0_dies_0 : decode cX0_dies 0 = .ok (.aload_n 0, 1) := dk_42 (dk_at dksX0_dies_0 0 rfl rfl)
theorem dX0_dies_1 : decode cX0_dies 1 = .ok (.iload_n 1, 1) := dk_27 (dk_at dksX0_dies_0 1 rfl rfl)
theorem dX0_dies_2 : decode cX0_dies 2 = .ok (.invokevirtual 119, 3) := dk_182 0 119 (dk_at dksX0_dies_0 2 rfl rfl)
theorem dX0_dies_5 : decode cX0_dies 5 = .ok (.ifCond .eq 21, 3) := dk_153 0 21 (dk_at dksX0_dies_0 5 rfl rfl)
theorem dX0_dies_8 : decode cX0_dies 8 = .ok (.iload_n 2, 1) := dk_28 (dk_at dksX0_dies_0 8 rfl rfl)
theorem dX0_dies_9 : decode cX0_dies 9 = .ok (.iconst 2, 1) := dk_5 (dk_at dksX0_dies_0 9 rfl rfl)
theorem dX0_dies_10 : decode cX0_dies 10 = .ok (.sipush 200, 3) := dk_17 0 200 (dk_at dksX0_dies_0 10 rfl rfl)
theorem dX0_dies_13 : decode cX0_dies 13 = .ok (.invokestatic 82, 3) := dk_184 0 82 (dk_at dksX0_dies_0 13 rfl rfl)
theorem dX0_dies_16 : decode cX0_dies 16 = .ok (.ifCond .eq 10, 3) := dk_153 0 10 (dk_at dksX0_dies_0 16 rfl rfl)
theorem dX0_dies_19 : decode cX0_dies 19 = .ok (.iload_n 2, 1) := dk_28 (dk_at dksX0_dies_0 19 rfl rfl)
theorem dX0_dies_20 : decode cX0_dies 20 = .ok (.iconst 2, 1) := dk_5 (dk_at dksX0_dies_0 20 rfl rfl)
theorem dX0_dies_21 : decode cX0_dies 21 = .ok (.irem, 1) := dk_112 (dk_at dksX0_dies_0 21 rfl rfl)
theorem dX0_dies_22 : decode cX0_dies 22 = .ok (.iconst 1, 1) := dk_4 (dk_at dksX0_dies_0 22 rfl rfl)
theorem dX0_dies_23 : decode cX0_dies 23 = .ok (.if_icmp .ne 6, 3) := dk_160 0 6 (dk_at dksX0_dies_1 0 rfl rfl)
theorem dX0_dies_26 : decode cX0_dies 26 = .ok (.bipush (-2), 2) := dk_16 254 (dk_at dksX0_dies_1 3 rfl rfl)
theorem dX0_dies_28 : decode cX0_dies 28 = .ok (.ireturn, 1) := dk_172 (dk_at dksX0_dies_1 5 rfl rfl)
theorem dX0_dies_29 : decode cX0_dies 29 = .ok (.aload_n 0, 1) := dk_42 (dk_at dksX0_dies_1 6 rfl rfl)
theorem dX0_dies_30 : decode cX0_dies 30 = .ok (.iload_n 2, 1) := dk_28 (dk_at dksX0_dies_1 7 rfl rfl)
theorem dX0_dies_31 : decode cX0_dies 31 = .ok (.iconst 2, 1) := dk_5 (dk_at dksX0_dies_1 8 rfl rfl)
theorem dX0_dies_32 : decode cX0_dies 32 = .ok (.idiv, 1) := dk_108 (dk_at dksX0_dies_1 9 rfl rfl)
theorem dX0_dies_33 : decode cX0_dies 33 = .ok (.aload_n 0, 1) := dk_42 (dk_at dksX0_dies_1 10 rfl rfl)
theorem dX0_dies_34 : decode cX0_dies 34 = .ok (.getfield 21, 3) := dk_180 0 21 (dk_at dksX0_dies_1 11 rfl rfl)
theorem dX0_dies_37 : decode cX0_dies 37 = .ok (.getfield 100, 3) := dk_180 0 100 (dk_at dksX0_dies_1 14 rfl rfl)
theorem dX0_dies_40 : decode cX0_dies 40 = .ok (.iload_n 1, 1) := dk_27 (dk_at dksX0_dies_1 17 rfl rfl)
theorem dX0_dies_41 : decode cX0_dies 41 = .ok (.aaload, 1) := dk_50 (dk_at dksX0_dies_1 18 rfl rfl)
theorem dX0_dies_42 : decode cX0_dies 42 = .ok (.iconst 1, 1) := dk_4 (dk_at dksX0_dies_1 19 rfl rfl)
theorem dX0_dies_43 : decode cX0_dies 43 = .ok (.invokevirtual 309, 3) := dk_182 1 53 (dk_at dksX0_dies_1 20 rfl rfl)
theorem dX0_dies_46 : decode cX0_dies 46 = .ok (.aload_n 0, 1) := dk_42 (dk_at dksX0_dies_1 23 rfl rfl)
theorem dX0_dies_47 : decode cX0_dies 47 = .ok (.getfield 303, 3) := dk_180 1 47 (dk_at dksX0_dies_2 0 rfl rfl)
theorem dX0_dies_50 : decode cX0_dies 50 = .ok (.istore_n 3, 1) := dk_62 (dk_at dksX0_dies_2 3 rfl rfl)
theorem dX0_dies_51 : decode cX0_dies 51 = .ok (.aload_n 0, 1) := dk_42 (dk_at dksX0_dies_2 4 rfl rfl)
theorem dX0_dies_52 : decode cX0_dies 52 = .ok (.iload_n 2, 1) := dk_28 (dk_at dksX0_dies_2 5 rfl rfl)
theorem dX0_dies_53 : decode cX0_dies 53 = .ok (.aload_n 0, 1) := dk_42 (dk_at dksX0_dies_2 6 rfl rfl)
theorem dX0_dies_54 : decode cX0_dies 54 = .ok (.getfield 21, 3) := dk_180 0 21 (dk_at dksX0_dies_2 7 rfl rfl)
theorem dX0_dies_57 : decode cX0_dies 57 = .ok (.getfield 100, 3) := dk_180 0 100 (dk_at dksX0_dies_2 10 rfl rfl)
theorem dX0_dies_60 : decode cX0_dies 60 = .ok (.iload_n 1, 1) := dk_27 (dk_at dksX0_dies_2 13 rfl rfl)
theorem dX0_dies_61 : decode cX0_dies 61 = .ok (.aaload, 1) := dk_50 (dk_at dksX0_dies_2 14 rfl rfl)
theorem dX0_dies_62 : decode cX0_dies 62 = .ok (.iload_n 2, 1) := dk_28 (dk_at dksX0_dies_2 15 rfl rfl)
theorem dX0_dies_63 : decode cX0_dies 63 = .ok (.iconst 2, 1) := dk_5 (dk_at dksX0_dies_2 16 rfl rfl)
theorem dX0_dies_64 : decode cX0_dies 64 = .ok (.idiv, 1) := dk_108 (dk_at dksX0_dies_2 17 rfl rfl)
theorem dX0_dies_65 : decode cX0_dies 65 = .ok (.iconst 1, 1) := dk_4 (dk_at dksX0_dies_2 18 rfl rfl)
theorem dX0_dies_66 : decode cX0_dies 66 = .ok (.iadd, 1) := dk_96 (dk_at dksX0_dies_2 19 rfl rfl)
theorem dX0_dies_67 : decode cX0_dies 67 = .ok (.invokevirtual 309, 3) := dk_182 1 53 (dk_at dksX0_dies_2 20 rfl rfl)
theorem dX0_dies_70 : decode cX0_dies 70 = .ok (.aload_n 0, 1) := dk_42 (dk_at dksX0_dies_2 23 rfl rfl)
theorem dX0_dies_71 : decode cX0_dies 71 = .ok (.getfield 303, 3) := dk_180 1 47 (dk_at dksX0_dies_3 0 rfl rfl)
theorem dX0_dies_74 : decode cX0_dies 74 = .ok (.iload_n 3, 1) := dk_29 (dk_at dksX0_dies_3 3 rfl rfl)
theorem dX0_dies_75 : decode cX0_dies 75 = .ok (.if_icmp .ge 7, 3) := dk_162 0 7 (dk_at dksX0_dies_3 4 rfl rfl)
theorem dX0_dies_78 : decode cX0_dies 78 = .ok (.iconst (-1), 1) := dk_2 (dk_at dksX0_dies_3 7 rfl rfl)
theorem dX0_dies_79 : decode cX0_dies 79 = .ok (.goto 16, 3) := dk_167 0 16 (dk_at dksX0_dies_3 8 rfl rfl)
theorem dX0_dies_82 : decode cX0_dies 82 = .ok (.aload_n 0, 1) := dk_42 (dk_at dksX0_dies_3 11 rfl rfl)
theorem dX0_dies_83 : decode cX0_dies 83 = .ok (.getfield 303, 3) := dk_180 1 47 (dk_at dksX0_dies_3 12 rfl rfl)
theorem dX0_dies_86 : decode cX0_dies 86 = .ok (.iload_n 3, 1) := dk_29 (dk_at dksX0_dies_3 15 rfl rfl)
theorem dX0_dies_87 : decode cX0_dies 87 = .ok (.if_icmp .le 7, 3) := dk_164 0 7 (dk_at dksX0_dies_3 16 rfl rfl)
theorem dX0_dies_90 : decode cX0_dies 90 = .ok (.iconst 1, 1) := dk_4 (dk_at dksX0_dies_3 19 rfl rfl)
theorem dX0_dies_91 : decode cX0_dies 91 = .ok (.goto 4, 3) := dk_167 0 4 (dk_at dksX0_dies_3 20 rfl rfl)
theorem dX0_dies_94 : decode cX0_dies 94 = .ok (.iconst 0, 1) := dk_3 (dk_at dksX0_dies_3 23 rfl rfl)
theorem dX0_dies_95 : decode cX0_dies 95 = .ok (.ireturn, 1) := dk_172 (dk_at dksX0_dies_4 0 rfl rfl)
abbrev cX0_calmest : ByteArray := prog_1_method_57_code
def yX0_calmest : MethodName := ⟨RX0, "calmest", "(I)I"⟩
def dkwX0_calmest_3 : List UInt8 := [180, 1, 47, 62, 132, 4, 1, 167, 255, 199, 28, 172]
abbrev dktX0_calmest_3 : List UInt8 := dkwX0_calmest_3 ++ []
def dkwX0_calmest_2 : List UInt8 := [182, 1, 53, 28, 2, 159, 0, 14, 42, 180, 1, 47, 29, 161, 0, 6, 167, 0, 11, 21, 4, 61, 42]
abbrev dktX0_calmest_2 : List UInt8 := dkwX0_calmest_2 ++ dktX0_calmest_3
def dkwX0_calmest_1 : List UInt8 := [180, 0, 21, 180, 0, 79, 5, 46, 162, 0, 49, 42, 27, 42, 180, 0, 21, 180, 0, 100, 21, 4, 50, 4]
abbrev dktX0_calmest_1 : List UInt8 := dkwX0_calmest_1 ++ dktX0_calmest_2
def dkwX0_calmest_0 : List UInt8 := [27, 4, 17, 0, 200, 184, 0, 82, 154, 0, 5, 2, 172, 2, 61, 3, 62, 3, 54, 4, 21, 4, 42]
abbrev dktX0_calmest_0 : List UInt8 := dkwX0_calmest_0 ++ dktX0_calmest_1
theorem dksX0_calmest_0 : cX0_calmest.data.toList.drop 0 = dktX0_calmest_0 := by decide +kernel
theorem dksX0_calmest_1 : cX0_calmest.data.toList.drop 23 = dktX0_calmest_1 := dk_seg dksX0_calmest_0 23 rfl rfl
theorem dksX0_calmest_2 : cX0_calmest.data.toList.drop 47 = dktX0_calmest_2 := dk_seg dksX0_calmest_1 24 rfl rfl
theorem dksX0_calmest_3 : cX0_calmest.data.toList.drop 70 = dktX0_calmest_3 := dk_seg dksX0_calmest_2 23 rfl rfl
theorem dX0_calmest_0 : decode cX0_calmest 0 = .ok (.iload_n 1, 1) := dk_27 (dk_at dksX0_calmest_0 0 rfl rfl)
theorem dX0_calmest_1 : decode cX0_calmest 1 = .ok (.iconst 1, 1) := dk_4 (dk_at dksX0_calmest_0 1 rfl rfl)
theorem dX0_calmest_2 : decode cX0_calmest 2 = .ok (.sipush 200, 3) := dk_17 0 200 (dk_at dksX0_calmest_0 2 rfl rfl)
theorem dX0_calmest_5 : decode cX0_calmest 5 = .ok (.invokestatic 82, 3) := dk_184 0 82 (dk_at dksX0_calmest_0 5 rfl rfl)
theorem dX0_calmest_8 : decode cX0_calmest 8 = .ok (.ifCond .ne 5, 3) := dk_154 0 5 (dk_at dksX0_calmest_0 8 rfl rfl)
theorem dX0_calmest_11 : decode cX0_calmest 11 = .ok (.iconst (-1), 1) := dk_2 (dk_at dksX0_calmest_0 11 rfl rfl)
theorem dX0_calmest_12 : decode cX0_calmest 12 = .ok (.ireturn, 1) := dk_172 (dk_at dksX0_calmest_0 12 rfl rfl)
theorem dX0_calmest_13 : decode cX0_calmest 13 = .ok (.iconst (-1), 1) := dk_2 (dk_at dksX0_calmest_0 13 rfl rfl)
theorem dX0_calmest_14 : decode cX0_calmest 14 = .ok (.istore_n 2, 1) := dk_61 (dk_at dksX0_calmest_0 14 rfl rfl)
theorem dX0_calmest_15 : decode cX0_calmest 15 = .ok (.iconst 0, 1) := dk_3 (dk_at dksX0_calmest_0 15 rfl rfl)
theorem dX0_calmest_16 : decode cX0_calmest 16 = .ok (.istore_n 3, 1) := dk_62 (dk_at dksX0_calmest_0 16 rfl rfl)
theorem dX0_calmest_17 : decode cX0_calmest 17 = .ok (.iconst 0, 1) := dk_3 (dk_at dksX0_calmest_0 17 rfl rfl)
theorem dX0_calmest_18 : decode cX0_calmest 18 = .ok (.istore 4, 2) := dk_54 4 (dk_at dksX0_calmest_0 18 rfl rfl)
theorem dX0_calmest_20 : decode cX0_calmest 20 = .ok (.iload 4, 2) := dk_21 4 (dk_at dksX0_calmest_0 20 rfl rfl)
theorem dX0_calmest_22 : decode cX0_calmest 22 = .ok (.aload_n 0, 1) := dk_42 (dk_at dksX0_calmest_0 22 rfl rfl)
theorem dX0_calmest_23 : decode cX0_calmest 23 = .ok (.getfield 21, 3) := dk_180 0 21 (dk_at dksX0_calmest_1 0 rfl rfl)
theorem dX0_calmest_26 : decode cX0_calmest 26 = .ok (.getfield 79, 3) := dk_180 0 79 (dk_at dksX0_calmest_1 3 rfl rfl)
theorem dX0_calmest_29 : decode cX0_calmest 29 = .ok (.iconst 2, 1) := dk_5 (dk_at dksX0_calmest_1 6 rfl rfl)
theorem dX0_calmest_30 : decode cX0_calmest 30 = .ok (.iaload, 1) := dk_46 (dk_at dksX0_calmest_1 7 rfl rfl)
theorem dX0_calmest_31 : decode cX0_calmest 31 = .ok (.if_icmp .ge 49, 3) := dk_162 0 49 (dk_at dksX0_calmest_1 8 rfl rfl)
theorem dX0_calmest_34 : decode cX0_calmest 34 = .ok (.aload_n 0, 1) := dk_42 (dk_at dksX0_calmest_1 11 rfl rfl)
theorem dX0_calmest_35 : decode cX0_calmest 35 = .ok (.iload_n 1, 1) := dk_27 (dk_at dksX0_calmest_1 12 rfl rfl)
theorem dX0_calmest_36 : decode cX0_calmest 36 = .ok (.aload_n 0, 1) := dk_42 (dk_at dksX0_calmest_1 13 rfl rfl)
theorem dX0_calmest_37 : decode cX0_calmest 37 = .ok (.getfield 21, 3) := dk_180 0 21 (dk_at dksX0_calmest_1 14 rfl rfl)
theorem dX0_calmest_40 : decode cX0_calmest 40 = .ok (.getfield 100, 3) := dk_180 0 100 (dk_at dksX0_calmest_1 17 rfl rfl)
theorem dX0_calmest_43 : decode cX0_calmest 43 = .ok (.iload 4, 2) := dk_21 4 (dk_at dksX0_calmest_1 20 rfl rfl)
theorem dX0_calmest_45 : decode cX0_calmest 45 = .ok (.aaload, 1) := dk_50 (dk_at dksX0_calmest_1 22 rfl rfl)
theorem dX0_calmest_46 : decode cX0_calmest 46 = .ok (.iconst 1, 1) := dk_4 (dk_at dksX0_calmest_1 23 rfl rfl)
theorem dX0_calmest_47 : decode cX0_calmest 47 = .ok (.invokevirtual 309, 3) := dk_182 1 53 (dk_at dksX0_calmest_2 0 rfl rfl)
theorem dX0_calmest_50 : decode cX0_calmest 50 = .ok (.iload_n 2, 1) := dk_28 (dk_at dksX0_calmest_2 3 rfl rfl)
theorem dX0_calmest_51 : decode cX0_calmest 51 = .ok (.iconst (-1), 1) := dk_2 (dk_at dksX0_calmest_2 4 rfl rfl)
theorem dX0_calmest_52 : decode cX0_calmest 52 = .ok (.if_icmp .eq 14, 3) := dk_159 0 14 (dk_at dksX0_calmest_2 5 rfl rfl)
theorem dX0_calmest_55 : decode cX0_calmest 55 = .ok (.aload_n 0, 1) := dk_42 (dk_at dksX0_calmest_2 8 rfl rfl)
theorem dX0_calmest_56 : decode cX0_calmest 56 = .ok (.getfield 303, 3) := dk_180 1 47 (dk_at dksX0_calmest_2 9 rfl rfl)
theorem dX0_calmest_59 : decode cX0_calmest 59 = .ok (.iload_n 3, 1) := dk_29 (dk_at dksX0_calmest_2 12 rfl rfl)
theorem dX0_calmest_60 : decode cX0_calmest 60 = .ok (.if_icmp .lt 6, 3) := dk_161 0 6 (dk_at dksX0_calmest_2 13 rfl rfl)
theorem dX0_calmest_63 : decode cX0_calmest 63 = .ok (.goto 11, 3) := dk_167 0 11 (dk_at dksX0_calmest_2 16 rfl rfl)
theorem dX0_calmest_66 : decode cX0_calmest 66 = .ok (.iload 4, 2) := dk_21 4 (dk_at dksX0_calmest_2 19 rfl rfl)
theorem dX0_calmest_68 : decode cX0_calmest 68 = .ok (.istore_n 2, 1) := dk_61 (dk_at dksX0_calmest_2 21 rfl rfl)
theorem dX0_calmest_69 : decode cX0_calmest 69 = .ok (.aload_n 0, 1) := dk_42 (dk_at dksX0_calmest_2 22 rfl rfl)
theorem dX0_calmest_70 : decode cX0_calmest 70 = .ok (.getfield 303, 3) := dk_180 1 47 (dk_at dksX0_calmest_3 0 rfl rfl)
theorem dX0_calmest_73 : decode cX0_calmest 73 = .ok (.istore_n 3, 1) := dk_62 (dk_at dksX0_calmest_3 3 rfl rfl)
theorem dX0_calmest_74 : decode cX0_calmest 74 = .ok (.iinc 4 1, 3) := dk_132 4 1 (dk_at dksX0_calmest_3 4 rfl rfl)
theorem dX0_calmest_77 : decode cX0_calmest 77 = .ok (.goto (-57), 3) := dk_167 255 199 (dk_at dksX0_calmest_3 7 rfl rfl)
theorem dX0_calmest_80 : decode cX0_calmest 80 = .ok (.iload_n 2, 1) := dk_28 (dk_at dksX0_calmest_3 10 rfl rfl)
theorem dX0_calmest_81 : decode cX0_calmest 81 = .ok (.ireturn, 1) := dk_172 (dk_at dksX0_calmest_3 11 rfl rfl)
abbrev cX0_whoseHand : ByteArray := prog_1_method_59_code
def yX0_whoseHand : MethodName := ⟨RX0, "whoseHand", "()I"⟩
def dkwX0_whoseHand_2 : List UInt8 := [167, 255, 214, 27, 172]
abbrev dktX0_whoseHand_2 : List UInt8 := dkwX0_whoseHand_2 ++ []
def dkwX0_whoseHand_1 : List UInt8 := [180, 0, 100, 28, 50, 182, 1, 78, 153, 0, 9, 4, 28, 120, 167, 0, 4, 3, 128, 60, 132, 2, 1]
abbrev dktX0_whoseHand_1 : List UInt8 := dkwX0_whoseHand_1 ++ dktX0_whoseHand_2
def dkwX0_whoseHand_0 : List UInt8 := [3, 60, 3, 61, 28, 42, 180, 0, 21, 180, 0, 79, 5, 46, 162, 0, 35, 27, 42, 42, 180, 0, 21]
abbrev dktX0_whoseHand_0 : List UInt8 := dkwX0_whoseHand_0 ++ dktX0_whoseHand_1
theorem dksX0_whoseHand_0 : cX0_whoseHand.data.toList.drop 0 = dktX0_whoseHand_0 := by decide +kernel
theorem dksX0_whoseHand_1 : cX0_whoseHand.data.toList.drop 23 = dktX0_whoseHand_1 := dk_seg dksX0_whoseHand_0 23 rfl rfl
theorem dksX0_whoseHand_2 : cX0_whoseHand.data.toList.drop 46 = dktX0_whoseHand_2 := dk_seg dksX0_whoseHand_1 23 rfl rfl
theorem dX0_whoseHand_0 : decode cX0_whoseHand 0 = .ok (.iconst 0, 1) := dk_3 (dk_at dksX0_whoseHand_0 0 rfl rfl)
theorem dX0_whoseHand_1 : decode cX0_whoseHand 1 = .ok (.istore_n 1, 1) := dk_60 (dk_at dksX0_whoseHand_0 1 rfl rfl)
theorem dX0_whoseHand_2 : decode cX0_whoseHand 2 = .ok (.iconst 0, 1) := dk_3 (dk_at dksX0_whoseHand_0 2 rfl rfl)
theorem dX0_whoseHand_3 : decode cX0_whoseHand 3 = .ok (.istore_n 2, 1) := dk_61 (dk_at dksX0_whoseHand_0 3 rfl rfl)
theorem dX0_whoseHand_4 : decode cX0_whoseHand 4 = .ok (.iload_n 2, 1) := dk_28 (dk_at dksX0_whoseHand_0 4 rfl rfl)
theorem dX0_whoseHand_5 : decode cX0_whoseHand 5 = .ok (.aload_n 0, 1) := dk_42 (dk_at dksX0_whoseHand_0 5 rfl rfl)
theorem dX0_whoseHand_6 : decode cX0_whoseHand 6 = .ok (.getfield 21, 3) := dk_180 0 21 (dk_at dksX0_whoseHand_0 6 rfl rfl)
theorem dX0_whoseHand_9 : decode cX0_whoseHand 9 = .ok (.getfield 79, 3) := dk_180 0 79 (dk_at dksX0_whoseHand_0 9 rfl rfl)
theorem dX0_whoseHand_12 : decode cX0_whoseHand 12 = .ok (.iconst 2, 1) := dk_5 (dk_at dksX0_whoseHand_0 12 rfl rfl)
theorem dX0_whoseHand_13 : decode cX0_whoseHand 13 = .ok (.iaload, 1) := dk_46 (dk_at dksX0_whoseHand_0 13 rfl rfl)
theorem dX0_whoseHand_14 : decode cX0_whoseHand 14 = .ok (.if_icmp .ge 35, 3) := dk_162 0 35 (dk_at dksX0_whoseHand_0 14 rfl rfl)
theorem dX0_whoseHand_17 : decode cX0_whoseHand 17 = .ok (.iload_n 1, 1) := dk_27 (dk_at dksX0_whoseHand_0 17 rfl rfl)
theorem dX0_whoseHand_18 : decode cX0_whoseHand 18 = .ok (.aload_n 0, 1) := dk_42 (dk_at dksX0_whoseHand_0 18 rfl rfl)
theorem dX0_whoseHand_19 : decode cX0_whoseHand 19 = .ok (.aload_n 0, 1) := dk_42 (dk_at dksX0_whoseHand_0 19 rfl rfl)
theorem dX0_whoseHand_20 : decode cX0_whoseHand 20 = .ok (.getfield 21, 3) := dk_180 0 21 (dk_at dksX0_whoseHand_0 20 rfl rfl)
theorem dX0_whoseHand_23 : decode cX0_whoseHand 23 = .ok (.getfield 100, 3) := dk_180 0 100 (dk_at dksX0_whoseHand_1 0 rfl rfl)
theorem dX0_whoseHand_26 : decode cX0_whoseHand 26 = .ok (.iload_n 2, 1) := dk_28 (dk_at dksX0_whoseHand_1 3 rfl rfl)
theorem dX0_whoseHand_27 : decode cX0_whoseHand 27 = .ok (.aaload, 1) := dk_50 (dk_at dksX0_whoseHand_1 4 rfl rfl)
theorem dX0_whoseHand_28 : decode cX0_whoseHand 28 = .ok (.invokevirtual 334, 3) := dk_182 1 78 (dk_at dksX0_whoseHand_1 5 rfl rfl)
theorem dX0_whoseHand_31 : decode cX0_whoseHand 31 = .ok (.ifCond .eq 9, 3) := dk_153 0 9 (dk_at dksX0_whoseHand_1 8 rfl rfl)
theorem dX0_whoseHand_34 : decode cX0_whoseHand 34 = .ok (.iconst 1, 1) := dk_4 (dk_at dksX0_whoseHand_1 11 rfl rfl)
theorem dX0_whoseHand_35 : decode cX0_whoseHand 35 = .ok (.iload_n 2, 1) := dk_28 (dk_at dksX0_whoseHand_1 12 rfl rfl)
theorem dX0_whoseHand_36 : decode cX0_whoseHand 36 = .ok (.ishl, 1) := dk_120 (dk_at dksX0_whoseHand_1 13 rfl rfl)
theorem dX0_whoseHand_37 : decode cX0_whoseHand 37 = .ok (.goto 4, 3) := dk_167 0 4 (dk_at dksX0_whoseHand_1 14 rfl rfl)
theorem dX0_whoseHand_40 : decode cX0_whoseHand 40 = .ok (.iconst 0, 1) := dk_3 (dk_at dksX0_whoseHand_1 17 rfl rfl)
theorem dX0_whoseHand_41 : decode cX0_whoseHand 41 = .ok (.ior, 1) := dk_128 (dk_at dksX0_whoseHand_1 18 rfl rfl)
theorem dX0_whoseHand_42 : decode cX0_whoseHand 42 = .ok (.istore_n 1, 1) := dk_60 (dk_at dksX0_whoseHand_1 19 rfl rfl)
theorem dX0_whoseHand_43 : decode cX0_whoseHand 43 = .ok (.iinc 2 1, 3) := dk_132 2 1 (dk_at dksX0_whoseHand_1 20 rfl rfl)
theorem dX0_whoseHand_46 : decode cX0_whoseHand 46 = .ok (.goto (-42), 3) := dk_167 255 214 (dk_at dksX0_whoseHand_2 0 rfl rfl)
theorem dX0_whoseHand_49 : decode cX0_whoseHand 49 = .ok (.iload_n 1, 1) := dk_27 (dk_at dksX0_whoseHand_2 3 rfl rfl)
theorem dX0_whoseHand_50 : decode cX0_whoseHand 50 = .ok (.ireturn, 1) := dk_172 (dk_at dksX0_whoseHand_2 4 rfl rfl)
abbrev cX0_isHand : ByteArray := prog_1_method_58_code
def yX0_isHand : MethodName := ⟨RX0, "isHand", "(LHookSwings$Text;)Z"⟩
def dkwX0_isHand_4 : List UInt8 := [172]
abbrev dktX0_isHand_4 : List UInt8 := dkwX0_isHand_4 ++ []
def dkwX0_isHand_3 : List UInt8 := [182, 0, 180, 44, 21, 4, 184, 0, 133, 8, 96, 46, 159, 0, 5, 3, 172, 132, 4, 1, 167, 255, 202, 4]
abbrev dktX0_isHand_3 : List UInt8 := dkwX0_isHand_3 ++ dktX0_isHand_4
def dkwX0_isHand_2 : List UInt8 := [184, 0, 133, 42, 180, 0, 39, 3, 8, 184, 0, 137, 42, 44, 21, 4, 29, 182, 0, 150, 42, 43]
abbrev dktX0_isHand_2 : List UInt8 := dkwX0_isHand_2 ++ dktX0_isHand_3
def dkwX0_isHand_1 : List UInt8 := [180, 0, 39, 16, 6, 44, 8, 46, 79, 29, 54, 4, 21, 4, 44, 16, 8, 46, 162, 0, 51, 44, 21, 4]
abbrev dktX0_isHand_1 : List UInt8 := dkwX0_isHand_1 ++ dktX0_isHand_2
def dkwX0_isHand_0 : List UInt8 := [42, 180, 0, 21, 180, 0, 176, 77, 44, 184, 0, 146, 62, 42, 180, 0, 39, 8, 44, 7, 46, 79, 42]
abbrev dktX0_isHand_0 : List UInt8 := dkwX0_isHand_0 ++ dktX0_isHand_1
theorem dksX0_isHand_0 : cX0_isHand.data.toList.drop 0 = dktX0_isHand_0 := by decide +kernel
theorem dksX0_isHand_1 : cX0_isHand.data.toList.drop 23 = dktX0_isHand_1 := dk_seg dksX0_isHand_0 23 rfl rfl
theorem dksX0_isHand_2 : cX0_isHand.data.toList.drop 47 = dktX0_isHand_2 := dk_seg dksX0_isHand_1 24 rfl rfl
theorem dksX0_isHand_3 : cX0_isHand.data.toList.drop 69 = dktX0_isHand_3 := dk_seg dksX0_isHand_2 22 rfl rfl
theorem dksX0_isHand_4 : cX0_isHand.data.toList.drop 93 = dktX0_isHand_4 := dk_seg dksX0_isHand_3 24 rfl rfl
theorem dX0_isHand_0 : decode cX0_isHand 0 = .ok (.aload_n 0, 1) := dk_42 (dk_at dksX0_isHand_0 0 rfl rfl)
theorem dX0_isHand_1 : decode cX0_isHand 1 = .ok (.getfield 21, 3) := dk_180 0 21 (dk_at dksX0_isHand_0 1 rfl rfl)
theorem dX0_isHand_4 : decode cX0_isHand 4 = .ok (.getfield 176, 3) := dk_180 0 176 (dk_at dksX0_isHand_0 4 rfl rfl)
theorem dX0_isHand_7 : decode cX0_isHand 7 = .ok (.astore_n 2, 1) := dk_77 (dk_at dksX0_isHand_0 7 rfl rfl)
theorem dX0_isHand_8 : decode cX0_isHand 8 = .ok (.aload_n 2, 1) := dk_44 (dk_at dksX0_isHand_0 8 rfl rfl)
theorem dX0_isHand_9 : decode cX0_isHand 9 = .ok (.invokestatic 146, 3) := dk_184 0 146 (dk_at dksX0_isHand_0 9 rfl rfl)
theorem dX0_isHand_12 : decode cX0_isHand 12 = .ok (.istore_n 3, 1) := dk_62 (dk_at dksX0_isHand_0 12 rfl rfl)
theorem dX0_isHand_13 : decode cX0_isHand 13 = .ok (.aload_n 0, 1) := dk_42 (dk_at dksX0_isHand_0 13 rfl rfl)
theorem dX0_isHand_14 : decode cX0_isHand 14 = .ok (.getfield 39, 3) := dk_180 0 39 (dk_at dksX0_isHand_0 14 rfl rfl)
theorem dX0_isHand_17 : decode cX0_isHand 17 = .ok (.iconst 5, 1) := dk_8 (dk_at dksX0_isHand_0 17 rfl rfl)
theorem dX0_isHand_18 : decode cX0_isHand 18 = .ok (.aload_n 2, 1) := dk_44 (dk_at dksX0_isHand_0 18 rfl rfl)
theorem dX0_isHand_19 : decode cX0_isHand 19 = .ok (.iconst 4, 1) := dk_7 (dk_at dksX0_isHand_0 19 rfl rfl)
theorem dX0_isHand_20 : decode cX0_isHand 20 = .ok (.iaload, 1) := dk_46 (dk_at dksX0_isHand_0 20 rfl rfl)
theorem dX0_isHand_21 : decode cX0_isHand 21 = .ok (.iastore, 1) := dk_79 (dk_at dksX0_isHand_0 21 rfl rfl)
theorem dX0_isHand_22 : decode cX0_isHand 22 = .ok (.aload_n 0, 1) := dk_42 (dk_at dksX0_isHand_0 22 rfl rfl)
theorem dX0_isHand_23 : decode cX0_isHand 23 = .ok (.getfield 39, 3) := dk_180 0 39 (dk_at dksX0_isHand_1 0 rfl rfl)
theorem dX0_isHand_26 : decode cX0_isHand 26 = .ok (.bipush 6, 2) := dk_16 6 (dk_at dksX0_isHand_1 3 rfl rfl)
theorem dX0_isHand_28 : decode cX0_isHand 28 = .ok (.aload_n 2, 1) := dk_44 (dk_at dksX0_isHand_1 5 rfl rfl)
theorem dX0_isHand_29 : decode cX0_isHand 29 = .ok (.iconst 5, 1) := dk_8 (dk_at dksX0_isHand_1 6 rfl rfl)
theorem dX0_isHand_30 : decode cX0_isHand 30 = .ok (.iaload, 1) := dk_46 (dk_at dksX0_isHand_1 7 rfl rfl)
theorem dX0_isHand_31 : decode cX0_isHand 31 = .ok (.iastore, 1) := dk_79 (dk_at dksX0_isHand_1 8 rfl rfl)
theorem dX0_isHand_32 : decode cX0_isHand 32 = .ok (.iload_n 3, 1) := dk_29 (dk_at dksX0_isHand_1 9 rfl rfl)
theorem dX0_isHand_33 : decode cX0_isHand 33 = .ok (.istore 4, 2) := dk_54 4 (dk_at dksX0_isHand_1 10 rfl rfl)
theorem dX0_isHand_35 : decode cX0_isHand 35 = .ok (.iload 4, 2) := dk_21 4 (dk_at dksX0_isHand_1 12 rfl rfl)
theorem dX0_isHand_37 : decode cX0_isHand 37 = .ok (.aload_n 2, 1) := dk_44 (dk_at dksX0_isHand_1 14 rfl rfl)
theorem dX0_isHand_38 : decode cX0_isHand 38 = .ok (.bipush 8, 2) := dk_16 8 (dk_at dksX0_isHand_1 15 rfl rfl)
theorem dX0_isHand_40 : decode cX0_isHand 40 = .ok (.iaload, 1) := dk_46 (dk_at dksX0_isHand_1 17 rfl rfl)
theorem dX0_isHand_41 : decode cX0_isHand 41 = .ok (.if_icmp .ge 51, 3) := dk_162 0 51 (dk_at dksX0_isHand_1 18 rfl rfl)
theorem dX0_isHand_44 : decode cX0_isHand 44 = .ok (.aload_n 2, 1) := dk_44 (dk_at dksX0_isHand_1 21 rfl rfl)
theorem dX0_isHand_45 : decode cX0_isHand 45 = .ok (.iload 4, 2) := dk_21 4 (dk_at dksX0_isHand_1 22 rfl rfl)
theorem dX0_isHand_47 : decode cX0_isHand 47 = .ok (.invokestatic 133, 3) := dk_184 0 133 (dk_at dksX0_isHand_2 0 rfl rfl)
theorem dX0_isHand_50 : decode cX0_isHand 50 = .ok (.aload_n 0, 1) := dk_42 (dk_at dksX0_isHand_2 3 rfl rfl)
theorem dX0_isHand_51 : decode cX0_isHand 51 = .ok (.getfield 39, 3) := dk_180 0 39 (dk_at dksX0_isHand_2 4 rfl rfl)
theorem dX0_isHand_54 : decode cX0_isHand 54 = .ok (.iconst 0, 1) := dk_3 (dk_at dksX0_isHand_2 7 rfl rfl)
theorem dX0_isHand_55 : decode cX0_isHand 55 = .ok (.iconst 5, 1) := dk_8 (dk_at dksX0_isHand_2 8 rfl rfl)
theorem dX0_isHand_56 : decode cX0_isHand 56 = .ok (.invokestatic 137, 3) := dk_184 0 137 (dk_at dksX0_isHand_2 9 rfl rfl)
theorem dX0_isHand_59 : decode cX0_isHand 59 = .ok (.aload_n 0, 1) := dk_42 (dk_at dksX0_isHand_2 12 rfl rfl)
theorem dX0_isHand_60 : decode cX0_isHand 60 = .ok (.aload_n 2, 1) := dk_44 (dk_at dksX0_isHand_2 13 rfl rfl)
theorem dX0_isHand_61 : decode cX0_isHand 61 = .ok (.iload 4, 2) := dk_21 4 (dk_at dksX0_isHand_2 14 rfl rfl)
theorem dX0_isHand_63 : decode cX0_isHand 63 = .ok (.iload_n 3, 1) := dk_29 (dk_at dksX0_isHand_2 16 rfl rfl)
theorem dX0_isHand_64 : decode cX0_isHand 64 = .ok (.invokevirtual 150, 3) := dk_182 0 150 (dk_at dksX0_isHand_2 17 rfl rfl)
theorem dX0_isHand_67 : decode cX0_isHand 67 = .ok (.aload_n 0, 1) := dk_42 (dk_at dksX0_isHand_2 20 rfl rfl)
theorem dX0_isHand_68 : decode cX0_isHand 68 = .ok (.aload_n 1, 1) := dk_43 (dk_at dksX0_isHand_2 21 rfl rfl)
theorem dX0_isHand_69 : decode cX0_isHand 69 = .ok (.invokevirtual 180, 3) := dk_182 0 180 (dk_at dksX0_isHand_3 0 rfl rfl)
theorem dX0_isHand_72 : decode cX0_isHand 72 = .ok (.aload_n 2, 1) := dk_44 (dk_at dksX0_isHand_3 3 rfl rfl)
theorem dX0_isHand_73 : decode cX0_isHand 73 = .ok (.iload 4, 2) := dk_21 4 (dk_at dksX0_isHand_3 4 rfl rfl)
theorem dX0_isHand_75 : decode cX0_isHand 75 = .ok (.invokestatic 133, 3) := dk_184 0 133 (dk_at dksX0_isHand_3 6 rfl rfl)
theorem dX0_isHand_78 : decode cX0_isHand 78 = .ok (.iconst 5, 1) := dk_8 (dk_at dksX0_isHand_3 9 rfl rfl)
theorem dX0_isHand_79 : decode cX0_isHand 79 = .ok (.iadd, 1) := dk_96 (dk_at dksX0_isHand_3 10 rfl rfl)
theorem dX0_isHand_80 : decode cX0_isHand 80 = .ok (.iaload, 1) := dk_46 (dk_at dksX0_isHand_3 11 rfl rfl)
theorem dX0_isHand_81 : decode cX0_isHand 81 = .ok (.if_icmp .eq 5, 3) := dk_159 0 5 (dk_at dksX0_isHand_3 12 rfl rfl)
theorem dX0_isHand_84 : decode cX0_isHand 84 = .ok (.iconst 0, 1) := dk_3 (dk_at dksX0_isHand_3 15 rfl rfl)
theorem dX0_isHand_85 : decode cX0_isHand 85 = .ok (.ireturn, 1) := dk_172 (dk_at dksX0_isHand_3 16 rfl rfl)
theorem dX0_isHand_86 : decode cX0_isHand 86 = .ok (.iinc 4 1, 3) := dk_132 4 1 (dk_at dksX0_isHand_3 17 rfl rfl)
theorem dX0_isHand_89 : decode cX0_isHand 89 = .ok (.goto (-54), 3) := dk_167 255 202 (dk_at dksX0_isHand_3 20 rfl rfl)
theorem dX0_isHand_92 : decode cX0_isHand 92 = .ok (.iconst 1, 1) := dk_4 (dk_at dksX0_isHand_3 23 rfl rfl)
theorem dX0_isHand_93 : decode cX0_isHand 93 = .ok (.ireturn, 1) := dk_172 (dk_at dksX0_isHand_4 0 rfl rfl)
abbrev cX0_dayEnds : ByteArray := prog_1_method_60_code
def yX0_dayEnds : MethodName := ⟨RX0, "dayEnds", "(II)I"⟩
def dkwX0_dayEnds_5 : List UInt8 := [172]
abbrev dktX0_dayEnds_5 : List UInt8 := dkwX0_dayEnds_5 ++ []
def dkwX0_dayEnds_4 : List UInt8 := [132, 5, 1, 167, 255, 205, 42, 3, 181, 0, 187, 42, 180, 0, 21, 180, 0, 176, 16, 6, 29, 79, 21, 4]
abbrev dktX0_dayEnds_4 : List UInt8 := dkwX0_dayEnds_4 ++ dktX0_dayEnds_5
def dkwX0_dayEnds_3 : List UInt8 := [27, 1, 4, 182, 1, 53, 42, 180, 1, 47, 28, 164, 0, 8, 21, 5, 167, 0, 4, 2, 54, 4]
abbrev dktX0_dayEnds_3 : List UInt8 := dkwX0_dayEnds_3 ++ dktX0_dayEnds_4
def dkwX0_dayEnds_2 : List UInt8 := [16, 10, 162, 0, 50, 21, 4, 2, 160, 0, 44, 42, 180, 0, 21, 180, 0, 176, 16, 6, 21, 5, 79, 42]
abbrev dktX0_dayEnds_2 : List UInt8 := dkwX0_dayEnds_2 ++ dktX0_dayEnds_3
def dkwX0_dayEnds_1 : List UInt8 := [42, 180, 0, 21, 180, 0, 176, 16, 6, 46, 62, 2, 54, 4, 42, 4, 181, 0, 187, 4, 54, 5, 21, 5]
abbrev dktX0_dayEnds_1 : List UInt8 := dkwX0_dayEnds_1 ++ dktX0_dayEnds_2
def dkwX0_dayEnds_0 : List UInt8 := [27, 4, 17, 0, 200, 184, 0, 82, 153, 0, 14, 28, 3, 17, 39, 15, 184, 0, 82, 154, 0, 5, 2, 172]
abbrev dktX0_dayEnds_0 : List UInt8 := dkwX0_dayEnds_0 ++ dktX0_dayEnds_1
theorem dksX0_dayEnds_0 : cX0_dayEnds.data.toList.drop 0 = dktX0_dayEnds_0 := by decide +kernel
theorem dksX0_dayEnds_1 : cX0_dayEnds.data.toList.drop 24 = dktX0_dayEnds_1 := dk_seg dksX0_dayEnds_0 24 rfl rfl
theorem dksX0_dayEnds_2 : cX0_dayEnds.data.toList.drop 48 = dktX0_dayEnds_2 := dk_seg dksX0_dayEnds_1 24 rfl rfl
theorem dksX0_dayEnds_3 : cX0_dayEnds.data.toList.drop 72 = dktX0_dayEnds_3 := dk_seg dksX0_dayEnds_2 24 rfl rfl
theorem dksX0_dayEnds_4 : cX0_dayEnds.data.toList.drop 94 = dktX0_dayEnds_4 := dk_seg dksX0_dayEnds_3 22 rfl rfl
theorem dksX0_dayEnds_5 : cX0_dayEnds.data.toList.drop 118 = dktX0_dayEnds_5 := dk_seg dksX0_dayEnds_4 24 rfl rfl
theorem dX0_dayEnds_0 : decode cX0_dayEnds 0 = .ok (.iload_n 1, 1) := dk_27 (dk_at dksX0_dayEnds_0 0 rfl rfl)
theorem dX0_dayEnds_1 : decode cX0_dayEnds 1 = .ok (.iconst 1, 1) := dk_4 (dk_at dksX0_dayEnds_0 1 rfl rfl)
theorem dX0_dayEnds_2 : decode cX0_dayEnds 2 = .ok (.sipush 200, 3) := dk_17 0 200 (dk_at dksX0_dayEnds_0 2 rfl rfl)
theorem dX0_dayEnds_5 : decode cX0_dayEnds 5 = .ok (.invokestatic 82, 3) := dk_184 0 82 (dk_at dksX0_dayEnds_0 5 rfl rfl)
theorem dX0_dayEnds_8 : decode cX0_dayEnds 8 = .ok (.ifCond .eq 14, 3) := dk_153 0 14 (dk_at dksX0_dayEnds_0 8 rfl rfl)
theorem dX0_dayEnds_11 : decode cX0_dayEnds 11 = .ok (.iload_n 2, 1) := dk_28 (dk_at dksX0_dayEnds_0 11 rfl rfl)
theorem dX0_dayEnds_12 : decode cX0_dayEnds 12 = .ok (.iconst 0, 1) := dk_3 (dk_at dksX0_dayEnds_0 12 rfl rfl)
theorem dX0_dayEnds_13 : decode cX0_dayEnds 13 = .ok (.sipush 9999, 3) := dk_17 39 15 (dk_at dksX0_dayEnds_0 13 rfl rfl)
theorem dX0_dayEnds_16 : decode cX0_dayEnds 16 = .ok (.invokestatic 82, 3) := dk_184 0 82 (dk_at dksX0_dayEnds_0 16 rfl rfl)
theorem dX0_dayEnds_19 : decode cX0_dayEnds 19 = .ok (.ifCond .ne 5, 3) := dk_154 0 5 (dk_at dksX0_dayEnds_0 19 rfl rfl)
theorem dX0_dayEnds_22 : decode cX0_dayEnds 22 = .ok (.iconst (-1), 1) := dk_2 (dk_at dksX0_dayEnds_0 22 rfl rfl)
theorem dX0_dayEnds_23 : decode cX0_dayEnds 23 = .ok (.ireturn, 1) := dk_172 (dk_at dksX0_dayEnds_0 23 rfl rfl)
theorem dX0_dayEnds_24 : decode cX0_dayEnds 24 = .ok (.aload_n 0, 1) := dk_42 (dk_at dksX0_dayEnds_1 0 rfl rfl)
theorem dX0_dayEnds_25 : decode cX0_dayEnds 25 = .ok (.getfield 21, 3) := dk_180 0 21 (dk_at dksX0_dayEnds_1 1 rfl rfl)
theorem dX0_dayEnds_28 : decode cX0_dayEnds 28 = .ok (.getfield 176, 3) := dk_180 0 176 (dk_at dksX0_dayEnds_1 4 rfl rfl)
theorem dX0_dayEnds_31 : decode cX0_dayEnds 31 = .ok (.bipush 6, 2) := dk_16 6 (dk_at dksX0_dayEnds_1 7 rfl rfl)
theorem dX0_dayEnds_33 : decode cX0_dayEnds 33 = .ok (.iaload, 1) := dk_46 (dk_at dksX0_dayEnds_1 9 rfl rfl)
theorem dX0_dayEnds_34 : decode cX0_dayEnds 34 = .ok (.istore_n 3, 1) := dk_62 (dk_at dksX0_dayEnds_1 10 rfl rfl)
theorem dX0_dayEnds_35 : decode cX0_dayEnds 35 = .ok (.iconst (-1), 1) := dk_2 (dk_at dksX0_dayEnds_1 11 rfl rfl)
theorem dX0_dayEnds_36 : decode cX0_dayEnds 36 = .ok (.istore 4, 2) := dk_54 4 (dk_at dksX0_dayEnds_1 12 rfl rfl)
theorem dX0_dayEnds_38 : decode cX0_dayEnds 38 = .ok (.aload_n 0, 1) := dk_42 (dk_at dksX0_dayEnds_1 14 rfl rfl)
theorem dX0_dayEnds_39 : decode cX0_dayEnds 39 = .ok (.iconst 1, 1) := dk_4 (dk_at dksX0_dayEnds_1 15 rfl rfl)
theorem dX0_dayEnds_40 : decode cX0_dayEnds 40 = .ok (.putfield 187, 3) := dk_181 0 187 (dk_at dksX0_dayEnds_1 16 rfl rfl)
theorem dX0_dayEnds_43 : decode cX0_dayEnds 43 = .ok (.iconst 1, 1) := dk_4 (dk_at dksX0_dayEnds_1 19 rfl rfl)
theorem dX0_dayEnds_44 : decode cX0_dayEnds 44 = .ok (.istore 5, 2) := dk_54 5 (dk_at dksX0_dayEnds_1 20 rfl rfl)
theorem dX0_dayEnds_46 : decode cX0_dayEnds 46 = .ok (.iload 5, 2) := dk_21 5 (dk_at dksX0_dayEnds_1 22 rfl rfl)
theorem dX0_dayEnds_48 : decode cX0_dayEnds 48 = .ok (.bipush 10, 2) := dk_16 10 (dk_at dksX0_dayEnds_2 0 rfl rfl)
theorem dX0_dayEnds_50 : decode cX0_dayEnds 50 = .ok (.if_icmp .ge 50, 3) := dk_162 0 50 (dk_at dksX0_dayEnds_2 2 rfl rfl)
theorem dX0_dayEnds_53 : decode cX0_dayEnds 53 = .ok (.iload 4, 2) := dk_21 4 (dk_at dksX0_dayEnds_2 5 rfl rfl)
theorem dX0_dayEnds_55 : decode cX0_dayEnds 55 = .ok (.iconst (-1), 1) := dk_2 (dk_at dksX0_dayEnds_2 7 rfl rfl)
theorem dX0_dayEnds_56 : decode cX0_dayEnds 56 = .ok (.if_icmp .ne 44, 3) := dk_160 0 44 (dk_at dksX0_dayEnds_2 8 rfl rfl)
theorem dX0_dayEnds_59 : decode cX0_dayEnds 59 = .ok (.aload_n 0, 1) := dk_42 (dk_at dksX0_dayEnds_2 11 rfl rfl)
theorem dX0_dayEnds_60 : decode cX0_dayEnds 60 = .ok (.getfield 21, 3) := dk_180 0 21 (dk_at dksX0_dayEnds_2 12 rfl rfl)
theorem dX0_dayEnds_63 : decode cX0_dayEnds 63 = .ok (.getfield 176, 3) := dk_180 0 176 (dk_at dksX0_dayEnds_2 15 rfl rfl)
theorem dX0_dayEnds_66 : decode cX0_dayEnds 66 = .ok (.bipush 6, 2) := dk_16 6 (dk_at dksX0_dayEnds_2 18 rfl rfl)
theorem dX0_dayEnds_68 : decode cX0_dayEnds 68 = .ok (.iload 5, 2) := dk_21 5 (dk_at dksX0_dayEnds_2 20 rfl rfl)
theorem dX0_dayEnds_70 : decode cX0_dayEnds 70 = .ok (.iastore, 1) := dk_79 (dk_at dksX0_dayEnds_2 22 rfl rfl)
theorem dX0_dayEnds_71 : decode cX0_dayEnds 71 = .ok (.aload_n 0, 1) := dk_42 (dk_at dksX0_dayEnds_2 23 rfl rfl)
theorem dX0_dayEnds_72 : decode cX0_dayEnds 72 = .ok (.iload_n 1, 1) := dk_27 (dk_at dksX0_dayEnds_3 0 rfl rfl)
theorem dX0_dayEnds_73 : decode cX0_dayEnds 73 = .ok (.aconst_null, 1) := dk_1 (dk_at dksX0_dayEnds_3 1 rfl rfl)
theorem dX0_dayEnds_74 : decode cX0_dayEnds 74 = .ok (.iconst 1, 1) := dk_4 (dk_at dksX0_dayEnds_3 2 rfl rfl)
theorem dX0_dayEnds_75 : decode cX0_dayEnds 75 = .ok (.invokevirtual 309, 3) := dk_182 1 53 (dk_at dksX0_dayEnds_3 3 rfl rfl)
theorem dX0_dayEnds_78 : decode cX0_dayEnds 78 = .ok (.aload_n 0, 1) := dk_42 (dk_at dksX0_dayEnds_3 6 rfl rfl)
theorem dX0_dayEnds_79 : decode cX0_dayEnds 79 = .ok (.getfield 303, 3) := dk_180 1 47 (dk_at dksX0_dayEnds_3 7 rfl rfl)
theorem dX0_dayEnds_82 : decode cX0_dayEnds 82 = .ok (.iload_n 2, 1) := dk_28 (dk_at dksX0_dayEnds_3 10 rfl rfl)
theorem dX0_dayEnds_83 : decode cX0_dayEnds 83 = .ok (.if_icmp .le 8, 3) := dk_164 0 8 (dk_at dksX0_dayEnds_3 11 rfl rfl)
theorem dX0_dayEnds_86 : decode cX0_dayEnds 86 = .ok (.iload 5, 2) := dk_21 5 (dk_at dksX0_dayEnds_3 14 rfl rfl)
theorem dX0_dayEnds_88 : decode cX0_dayEnds 88 = .ok (.goto 4, 3) := dk_167 0 4 (dk_at dksX0_dayEnds_3 16 rfl rfl)
theorem dX0_dayEnds_91 : decode cX0_dayEnds 91 = .ok (.iconst (-1), 1) := dk_2 (dk_at dksX0_dayEnds_3 19 rfl rfl)
theorem dX0_dayEnds_92 : decode cX0_dayEnds 92 = .ok (.istore 4, 2) := dk_54 4 (dk_at dksX0_dayEnds_3 20 rfl rfl)
theorem dX0_dayEnds_94 : decode cX0_dayEnds 94 = .ok (.iinc 5 1, 3) := dk_132 5 1 (dk_at dksX0_dayEnds_4 0 rfl rfl)
theorem dX0_dayEnds_97 : decode cX0_dayEnds 97 = .ok (.goto (-51), 3) := dk_167 255 205 (dk_at dksX0_dayEnds_4 3 rfl rfl)
theorem dX0_dayEnds_100 : decode cX0_dayEnds 100 = .ok (.aload_n 0, 1) := dk_42 (dk_at dksX0_dayEnds_4 6 rfl rfl)
theorem dX0_dayEnds_101 : decode cX0_dayEnds 101 = .ok (.iconst 0, 1) := dk_3 (dk_at dksX0_dayEnds_4 7 rfl rfl)
theorem dX0_dayEnds_102 : decode cX0_dayEnds 102 = .ok (.putfield 187, 3) := dk_181 0 187 (dk_at dksX0_dayEnds_4 8 rfl rfl)
theorem dX0_dayEnds_105 : decode cX0_dayEnds 105 = .ok (.aload_n 0, 1) := dk_42 (dk_at dksX0_dayEnds_4 11 rfl rfl)
theorem dX0_dayEnds_106 : decode cX0_dayEnds 106 = .ok (.getfield 21, 3) := dk_180 0 21 (dk_at dksX0_dayEnds_4 12 rfl rfl)
theorem dX0_dayEnds_109 : decode cX0_dayEnds 109 = .ok (.getfield 176, 3) := dk_180 0 176 (dk_at dksX0_dayEnds_4 15 rfl rfl)
theorem dX0_dayEnds_112 : decode cX0_dayEnds 112 = .ok (.bipush 6, 2) := dk_16 6 (dk_at dksX0_dayEnds_4 18 rfl rfl)
theorem dX0_dayEnds_114 : decode cX0_dayEnds 114 = .ok (.iload_n 3, 1) := dk_29 (dk_at dksX0_dayEnds_4 20 rfl rfl)
theorem dX0_dayEnds_115 : decode cX0_dayEnds 115 = .ok (.iastore, 1) := dk_79 (dk_at dksX0_dayEnds_4 21 rfl rfl)
theorem dX0_dayEnds_116 : decode cX0_dayEnds 116 = .ok (.iload 4, 2) := dk_21 4 (dk_at dksX0_dayEnds_4 22 rfl rfl)
theorem dX0_dayEnds_118 : decode cX0_dayEnds 118 = .ok (.ireturn, 1) := dk_172 (dk_at dksX0_dayEnds_5 0 rfl rfl)
abbrev cX0_saves : ByteArray := prog_1_method_63_code
def yX0_saves : MethodName := ⟨RX0, "saves", "(III)I"⟩
def dkwX0_saves_5 : List UInt8 := [167, 255, 190, 21, 4, 172]
abbrev dktX0_saves_5 : List UInt8 := dkwX0_saves_5 ++ []
def dkwX0_saves_4 : List UInt8 := [180, 0, 21, 180, 0, 100, 27, 50, 21, 5, 182, 1, 88, 100, 167, 0, 4, 3, 96, 54, 4, 132, 5, 1]
abbrev dktX0_saves_4 : List UInt8 := dkwX0_saves_4 ++ dktX0_saves_5
def dkwX0_saves_3 : List UInt8 := [184, 0, 218, 153, 0, 37, 42, 42, 180, 0, 21, 180, 0, 100, 28, 50, 21, 5, 182, 1, 88, 42, 42]
abbrev dktX0_saves_3 : List UInt8 := dkwX0_saves_3 ++ dktX0_saves_4
def dkwX0_saves_2 : List UInt8 := [54, 4, 3, 54, 5, 21, 5, 42, 180, 0, 21, 180, 0, 79, 3, 46, 162, 0, 58, 21, 4, 29, 21, 5]
abbrev dktX0_saves_2 : List UInt8 := dkwX0_saves_2 ++ dktX0_saves_3
def dkwX0_saves_1 : List UInt8 := [42, 180, 0, 21, 180, 0, 79, 3, 46, 120, 4, 100, 184, 0, 82, 154, 0, 7, 19, 1, 40, 172, 3]
abbrev dktX0_saves_1 : List UInt8 := dkwX0_saves_1 ++ dktX0_saves_2
def dkwX0_saves_0 : List UInt8 := [42, 27, 182, 0, 119, 153, 0, 37, 42, 28, 182, 0, 119, 153, 0, 29, 27, 28, 159, 0, 24, 29, 4, 4]
abbrev dktX0_saves_0 : List UInt8 := dkwX0_saves_0 ++ dktX0_saves_1
theorem dksX0_saves_0 : cX0_saves.data.toList.drop 0 = dktX0_saves_0 := by decide +kernel
theorem dksX0_saves_1 : cX0_saves.data.toList.drop 24 = dktX0_saves_1 := dk_seg dksX0_saves_0 24 rfl rfl
theorem dksX0_saves_2 : cX0_saves.data.toList.drop 47 = dktX0_saves_2 := dk_seg dksX0_saves_1 23 rfl rfl
theorem dksX0_saves_3 : cX0_saves.data.toList.drop 71 = dktX0_saves_3 := dk_seg dksX0_saves_2 24 rfl rfl
theorem dksX0_saves_4 : cX0_saves.data.toList.drop 94 = dktX0_saves_4 := dk_seg dksX0_saves_3 23 rfl rfl
theorem dksX0_saves_5 : cX0_saves.data.toList.drop 118 = dktX0_saves_5 := dk_seg dksX0_saves_4 24 rfl rfl
theorem dX0_saves_0 : decode cX0_saves 0 = .ok (.aload_n 0, 1) := dk_42 (dk_at dksX0_saves_0 0 rfl rfl)
theorem dX0_saves_1 : decode cX0_saves 1 = .ok (.iload_n 1, 1) := dk_27 (dk_at dksX0_saves_0 1 rfl rfl)
theorem dX0_saves_2 : decode cX0_saves 2 = .ok (.invokevirtual 119, 3) := dk_182 0 119 (dk_at dksX0_saves_0 2 rfl rfl)
theorem dX0_saves_5 : decode cX0_saves 5 = .ok (.ifCond .eq 37, 3) := dk_153 0 37 (dk_at dksX0_saves_0 5 rfl rfl)
theorem dX0_saves_8 : decode cX0_saves 8 = .ok (.aload_n 0, 1) := dk_42 (dk_at dksX0_saves_0 8 rfl rfl)
theorem dX0_saves_9 : decode cX0_saves 9 = .ok (.iload_n 2, 1) := dk_28 (dk_at dksX0_saves_0 9 rfl rfl)
theorem dX0_saves_10 : decode cX0_saves 10 = .ok (.invokevirtual 119, 3) := dk_182 0 119 (dk_at dksX0_saves_0 10 rfl rfl)
theorem dX0_saves_13 : decode cX0_saves 13 = .ok (.ifCond .eq 29, 3) := dk_153 0 29 (dk_at dksX0_saves_0 13 rfl rfl)
theorem dX0_saves_16 : decode cX0_saves 16 = .ok (.iload_n 1, 1) := dk_27 (dk_at dksX0_saves_0 16 rfl rfl)
theorem dX0_saves_17 : decode cX0_saves 17 = .ok (.iload_n 2, 1) := dk_28 (dk_at dksX0_saves_0 17 rfl rfl)
theorem dX0_saves_18 : decode cX0_saves 18 = .ok (.if_icmp .eq 24, 3) := dk_159 0 24 (dk_at dksX0_saves_0 18 rfl rfl)
theorem dX0_saves_21 : decode cX0_saves 21 = .ok (.iload_n 3, 1) := dk_29 (dk_at dksX0_saves_0 21 rfl rfl)
theorem dX0_saves_22 : decode cX0_saves 22 = .ok (.iconst 1, 1) := dk_4 (dk_at dksX0_saves_0 22 rfl rfl)
theorem dX0_saves_23 : decode cX0_saves 23 = .ok (.iconst 1, 1) := dk_4 (dk_at dksX0_saves_0 23 rfl rfl)
theorem dX0_saves_24 : decode cX0_saves 24 = .ok (.aload_n 0, 1) := dk_42 (dk_at dksX0_saves_1 0 rfl rfl)
theorem dX0_saves_25 : decode cX0_saves 25 = .ok (.getfield 21, 3) := dk_180 0 21 (dk_at dksX0_saves_1 1 rfl rfl)
theorem dX0_saves_28 : decode cX0_saves 28 = .ok (.getfield 79, 3) := dk_180 0 79 (dk_at dksX0_saves_1 4 rfl rfl)
theorem dX0_saves_31 : decode cX0_saves 31 = .ok (.iconst 0, 1) := dk_3 (dk_at dksX0_saves_1 7 rfl rfl)
theorem dX0_saves_32 : decode cX0_saves 32 = .ok (.iaload, 1) := dk_46 (dk_at dksX0_saves_1 8 rfl rfl)
theorem dX0_saves_33 : decode cX0_saves 33 = .ok (.ishl, 1) := dk_120 (dk_at dksX0_saves_1 9 rfl rfl)
theorem dX0_saves_34 : decode cX0_saves 34 = .ok (.iconst 1, 1) := dk_4 (dk_at dksX0_saves_1 10 rfl rfl)
theorem dX0_saves_35 : decode cX0_saves 35 = .ok (.isub, 1) := dk_100 (dk_at dksX0_saves_1 11 rfl rfl)
theorem dX0_saves_36 : decode cX0_saves 36 = .ok (.invokestatic 82, 3) := dk_184 0 82 (dk_at dksX0_saves_1 12 rfl rfl)
theorem dX0_saves_39 : decode cX0_saves 39 = .ok (.ifCond .ne 7, 3) := dk_154 0 7 (dk_at dksX0_saves_1 15 rfl rfl)
theorem dX0_saves_42 : decode cX0_saves 42 = .ok (.ldc_w 296, 3) := dk_19 1 40 (dk_at dksX0_saves_1 18 rfl rfl)
theorem dX0_saves_45 : decode cX0_saves 45 = .ok (.ireturn, 1) := dk_172 (dk_at dksX0_saves_1 21 rfl rfl)
theorem dX0_saves_46 : decode cX0_saves 46 = .ok (.iconst 0, 1) := dk_3 (dk_at dksX0_saves_1 22 rfl rfl)
theorem dX0_saves_47 : decode cX0_saves 47 = .ok (.istore 4, 2) := dk_54 4 (dk_at dksX0_saves_2 0 rfl rfl)
theorem dX0_saves_49 : decode cX0_saves 49 = .ok (.iconst 0, 1) := dk_3 (dk_at dksX0_saves_2 2 rfl rfl)
theorem dX0_saves_50 : decode cX0_saves 50 = .ok (.istore 5, 2) := dk_54 5 (dk_at dksX0_saves_2 3 rfl rfl)
theorem dX0_saves_52 : decode cX0_saves 52 = .ok (.iload 5, 2) := dk_21 5 (dk_at dksX0_saves_2 5 rfl rfl)
theorem dX0_saves_54 : decode cX0_saves 54 = .ok (.aload_n 0, 1) := dk_42 (dk_at dksX0_saves_2 7 rfl rfl)
theorem dX0_saves_55 : decode cX0_saves 55 = .ok (.getfield 21, 3) := dk_180 0 21 (dk_at dksX0_saves_2 8 rfl rfl)
theorem dX0_saves_58 : decode cX0_saves 58 = .ok (.getfield 79, 3) := dk_180 0 79 (dk_at dksX0_saves_2 11 rfl rfl)
theorem dX0_saves_61 : decode cX0_saves 61 = .ok (.iconst 0, 1) := dk_3 (dk_at dksX0_saves_2 14 rfl rfl)
theorem dX0_saves_62 : decode cX0_saves 62 = .ok (.iaload, 1) := dk_46 (dk_at dksX0_saves_2 15 rfl rfl)
theorem dX0_saves_63 : decode cX0_saves 63 = .ok (.if_icmp .ge 58, 3) := dk_162 0 58 (dk_at dksX0_saves_2 16 rfl rfl)
theorem dX0_saves_66 : decode cX0_saves 66 = .ok (.iload 4, 2) := dk_21 4 (dk_at dksX0_saves_2 19 rfl rfl)
theorem dX0_saves_68 : decode cX0_saves 68 = .ok (.iload_n 3, 1) := dk_29 (dk_at dksX0_saves_2 21 rfl rfl)
theorem dX0_saves_69 : decode cX0_saves 69 = .ok (.iload 5, 2) := dk_21 5 (dk_at dksX0_saves_2 22 rfl rfl)
theorem dX0_saves_71 : decode cX0_saves 71 = .ok (.invokestatic 218, 3) := dk_184 0 218 (dk_at dksX0_saves_3 0 rfl rfl)
theorem dX0_saves_74 : decode cX0_saves 74 = .ok (.ifCond .eq 37, 3) := dk_153 0 37 (dk_at dksX0_saves_3 3 rfl rfl)
theorem dX0_saves_77 : decode cX0_saves 77 = .ok (.aload_n 0, 1) := dk_42 (dk_at dksX0_saves_3 6 rfl rfl)
theorem dX0_saves_78 : decode cX0_saves 78 = .ok (.aload_n 0, 1) := dk_42 (dk_at dksX0_saves_3 7 rfl rfl)
theorem dX0_saves_79 : decode cX0_saves 79 = .ok (.getfield 21, 3) := dk_180 0 21 (dk_at dksX0_saves_3 8 rfl rfl)
theorem dX0_saves_82 : decode cX0_saves 82 = .ok (.getfield 100, 3) := dk_180 0 100 (dk_at dksX0_saves_3 11 rfl rfl)
theorem dX0_saves_85 : decode cX0_saves 85 = .ok (.iload_n 2, 1) := dk_28 (dk_at dksX0_saves_3 14 rfl rfl)
theorem dX0_saves_86 : decode cX0_saves 86 = .ok (.aaload, 1) := dk_50 (dk_at dksX0_saves_3 15 rfl rfl)
theorem dX0_saves_87 : decode cX0_saves 87 = .ok (.iload 5, 2) := dk_21 5 (dk_at dksX0_saves_3 16 rfl rfl)
theorem dX0_saves_89 : decode cX0_saves 89 = .ok (.invokevirtual 344, 3) := dk_182 1 88 (dk_at dksX0_saves_3 18 rfl rfl)
theorem dX0_saves_92 : decode cX0_saves 92 = .ok (.aload_n 0, 1) := dk_42 (dk_at dksX0_saves_3 21 rfl rfl)
theorem dX0_saves_93 : decode cX0_saves 93 = .ok (.aload_n 0, 1) := dk_42 (dk_at dksX0_saves_3 22 rfl rfl)
theorem dX0_saves_94 : decode cX0_saves 94 = .ok (.getfield 21, 3) := dk_180 0 21 (dk_at dksX0_saves_4 0 rfl rfl)
theorem dX0_saves_97 : decode cX0_saves 97 = .ok (.getfield 100, 3) := dk_180 0 100 (dk_at dksX0_saves_4 3 rfl rfl)
theorem dX0_saves_100 : decode cX0_saves 100 = .ok (.iload_n 1, 1) := dk_27 (dk_at dksX0_saves_4 6 rfl rfl)
theorem dX0_saves_101 : decode cX0_saves 101 = .ok (.aaload, 1) := dk_50 (dk_at dksX0_saves_4 7 rfl rfl)
theorem dX0_saves_102 : decode cX0_saves 102 = .ok (.iload 5, 2) := dk_21 5 (dk_at dksX0_saves_4 8 rfl rfl)
theorem dX0_saves_104 : decode cX0_saves 104 = .ok (.invokevirtual 344, 3) := dk_182 1 88 (dk_at dksX0_saves_4 10 rfl rfl)
theorem dX0_saves_107 : decode cX0_saves 107 = .ok (.isub, 1) := dk_100 (dk_at dksX0_saves_4 13 rfl rfl)
theorem dX0_saves_108 : decode cX0_saves 108 = .ok (.goto 4, 3) := dk_167 0 4 (dk_at dksX0_saves_4 14 rfl rfl)
theorem dX0_saves_111 : decode cX0_saves 111 = .ok (.iconst 0, 1) := dk_3 (dk_at dksX0_saves_4 17 rfl rfl)
theorem dX0_saves_112 : decode cX0_saves 112 = .ok (.iadd, 1) := dk_96 (dk_at dksX0_saves_4 18 rfl rfl)
theorem dX0_saves_113 : decode cX0_saves 113 = .ok (.istore 4, 2) := dk_54 4 (dk_at dksX0_saves_4 19 rfl rfl)
theorem dX0_saves_115 : decode cX0_saves 115 = .ok (.iinc 5 1, 3) := dk_132 5 1 (dk_at dksX0_saves_4 21 rfl rfl)
theorem dX0_saves_118 : decode cX0_saves 118 = .ok (.goto (-66), 3) := dk_167 255 190 (dk_at dksX0_saves_5 0 rfl rfl)
theorem dX0_saves_121 : decode cX0_saves 121 = .ok (.iload 4, 2) := dk_21 4 (dk_at dksX0_saves_5 3 rfl rfl)
theorem dX0_saves_123 : decode cX0_saves 123 = .ok (.ireturn, 1) := dk_172 (dk_at dksX0_saves_5 5 rfl rfl)
abbrev cX0_takes : ByteArray := prog_1_method_62_code
def yX0_takes : MethodName := ⟨RX0, "takes", "(LHookSwings$Text;I)I"⟩
def dkwX0_takes_4 : List UInt8 := [29, 172]
abbrev dktX0_takes_4 : List UInt8 := dkwX0_takes_4 ++ []
def dkwX0_takes_3 : List UInt8 := [43, 17, 0, 200, 182, 1, 84, 62, 42, 3, 181, 0, 187, 29, 2, 160, 0, 9, 17, 0, 200, 167, 0, 4]
abbrev dktX0_takes_3 : List UInt8 := dkwX0_takes_3 ++ dktX0_takes_4
def dkwX0_takes_2 : List UInt8 := [180, 0, 21, 180, 0, 86, 28, 50, 4, 46, 16, 10, 104, 79, 42, 4, 181, 0, 187, 42, 42, 180, 0, 43]
abbrev dktX0_takes_2 : List UInt8 := dkwX0_takes_2 ++ dktX0_takes_3
def dkwX0_takes_1 : List UInt8 := [180, 0, 43, 8, 42, 180, 0, 21, 180, 0, 86, 28, 50, 3, 46, 79, 42, 180, 0, 43, 16, 7, 42]
abbrev dktX0_takes_1 : List UInt8 := dkwX0_takes_1 ++ dktX0_takes_2
def dkwX0_takes_0 : List UInt8 := [42, 180, 0, 43, 3, 184, 1, 82, 42, 180, 0, 43, 7, 42, 180, 0, 21, 180, 0, 176, 7, 46, 79, 42]
abbrev dktX0_takes_0 : List UInt8 := dkwX0_takes_0 ++ dktX0_takes_1
theorem dksX0_takes_0 : cX0_takes.data.toList.drop 0 = dktX0_takes_0 := by decide +kernel
theorem dksX0_takes_1 : cX0_takes.data.toList.drop 24 = dktX0_takes_1 := dk_seg dksX0_takes_0 24 rfl rfl
theorem dksX0_takes_2 : cX0_takes.data.toList.drop 47 = dktX0_takes_2 := dk_seg dksX0_takes_1 23 rfl rfl
theorem dksX0_takes_3 : cX0_takes.data.toList.drop 71 = dktX0_takes_3 := dk_seg dksX0_takes_2 24 rfl rfl
theorem dksX0_takes_4 : cX0_takes.data.toList.drop 95 = dktX0_takes_4 := dk_seg dksX0_takes_3 24 rfl rfl
theorem dX0_takes_0 : decode cX0_takes 0 = .ok (.aload_n 0, 1) := dk_42 (dk_at dksX0_takes_0 0 rfl rfl)
theorem dX0_takes_1 : decode cX0_takes 1 = .ok (.getfield 43, 3) := dk_180 0 43 (dk_at dksX0_takes_0 1 rfl rfl)
theorem dX0_takes_4 : decode cX0_takes 4 = .ok (.iconst 0, 1) := dk_3 (dk_at dksX0_takes_0 4 rfl rfl)
theorem dX0_takes_5 : decode cX0_takes 5 = .ok (.invokestatic 338, 3) := dk_184 1 82 (dk_at dksX0_takes_0 5 rfl rfl)
theorem dX0_takes_8 : decode cX0_takes 8 = .ok (.aload_n 0, 1) := dk_42 (dk_at dksX0_takes_0 8 rfl rfl)
theorem dX0_takes_9 : decode cX0_takes 9 = .ok (.getfield 43, 3) := dk_180 0 43 (dk_at dksX0_takes_0 9 rfl rfl)
theorem dX0_takes_12 : decode cX0_takes 12 = .ok (.iconst 4, 1) := dk_7 (dk_at dksX0_takes_0 12 rfl rfl)
theorem dX0_takes_13 : decode cX0_takes 13 = .ok (.aload_n 0, 1) := dk_42 (dk_at dksX0_takes_0 13 rfl rfl)
theorem dX0_takes_14 : decode cX0_takes 14 = .ok (.getfield 21, 3) := dk_180 0 21 (dk_at dksX0_takes_0 14 rfl rfl)
theorem dX0_takes_17 : decode cX0_takes 17 = .ok (.getfield 176, 3) := dk_180 0 176 (dk_at dksX0_takes_0 17 rfl rfl)
theorem dX0_takes_20 : decode cX0_takes 20 = .ok (.iconst 4, 1) := dk_7 (dk_at dksX0_takes_0 20 rfl rfl)
theorem dX0_takes_21 : decode cX0_takes 21 = .ok (.iaload, 1) := dk_46 (dk_at dksX0_takes_0 21 rfl rfl)
theorem dX0_takes_22 : decode cX0_takes 22 = .ok (.iastore, 1) := dk_79 (dk_at dksX0_takes_0 22 rfl rfl)
theorem dX0_takes_23 : decode cX0_takes 23 = .ok (.aload_n 0, 1) := dk_42 (dk_at dksX0_takes_0 23 rfl rfl)
theorem dX0_takes_24 : decode cX0_takes 24 = .ok (.getfield 43, 3) := dk_180 0 43 (dk_at dksX0_takes_1 0 rfl rfl)
theorem dX0_takes_27 : decode cX0_takes 27 = .ok (.iconst 5, 1) := dk_8 (dk_at dksX0_takes_1 3 rfl rfl)
theorem dX0_takes_28 : decode cX0_takes 28 = .ok (.aload_n 0, 1) := dk_42 (dk_at dksX0_takes_1 4 rfl rfl)
theorem dX0_takes_29 : decode cX0_takes 29 = .ok (.getfield 21, 3) := dk_180 0 21 (dk_at dksX0_takes_1 5 rfl rfl)
theorem dX0_takes_32 : decode cX0_takes 32 = .ok (.getfield 86, 3) := dk_180 0 86 (dk_at dksX0_takes_1 8 rfl rfl)
theorem dX0_takes_35 : decode cX0_takes 35 = .ok (.iload_n 2, 1) := dk_28 (dk_at dksX0_takes_1 11 rfl rfl)
theorem dX0_takes_36 : decode cX0_takes 36 = .ok (.aaload, 1) := dk_50 (dk_at dksX0_takes_1 12 rfl rfl)
theorem dX0_takes_37 : decode cX0_takes 37 = .ok (.iconst 0, 1) := dk_3 (dk_at dksX0_takes_1 13 rfl rfl)
theorem dX0_takes_38 : decode cX0_takes 38 = .ok (.iaload, 1) := dk_46 (dk_at dksX0_takes_1 14 rfl rfl)
theorem dX0_takes_39 : decode cX0_takes 39 = .ok (.iastore, 1) := dk_79 (dk_at dksX0_takes_1 15 rfl rfl)
theorem dX0_takes_40 : decode cX0_takes 40 = .ok (.aload_n 0, 1) := dk_42 (dk_at dksX0_takes_1 16 rfl rfl)
theorem dX0_takes_41 : decode cX0_takes 41 = .ok (.getfield 43, 3) := dk_180 0 43 (dk_at dksX0_takes_1 17 rfl rfl)
theorem dX0_takes_44 : decode cX0_takes 44 = .ok (.bipush 7, 2) := dk_16 7 (dk_at dksX0_takes_1 20 rfl rfl)
theorem dX0_takes_46 : decode cX0_takes 46 = .ok (.aload_n 0, 1) := dk_42 (dk_at dksX0_takes_1 22 rfl rfl)
theorem dX0_takes_47 : decode cX0_takes 47 = .ok (.getfield 21, 3) := dk_180 0 21 (dk_at dksX0_takes_2 0 rfl rfl)
theorem dX0_takes_50 : decode cX0_takes 50 = .ok (.getfield 86, 3) := dk_180 0 86 (dk_at dksX0_takes_2 3 rfl rfl)
theorem dX0_takes_53 : decode cX0_takes 53 = .ok (.iload_n 2, 1) := dk_28 (dk_at dksX0_takes_2 6 rfl rfl)
theorem dX0_takes_54 : decode cX0_takes 54 = .ok (.aaload, 1) := dk_50 (dk_at dksX0_takes_2 7 rfl rfl)
theorem dX0_takes_55 : decode cX0_takes 55 = .ok (.iconst 1, 1) := dk_4 (dk_at dksX0_takes_2 8 rfl rfl)
theorem dX0_takes_56 : decode cX0_takes 56 = .ok (.iaload, 1) := dk_46 (dk_at dksX0_takes_2 9 rfl rfl)
theorem dX0_takes_57 : decode cX0_takes 57 = .ok (.bipush 10, 2) := dk_16 10 (dk_at dksX0_takes_2 10 rfl rfl)
theorem dX0_takes_59 : decode cX0_takes 59 = .ok (.imul, 1) := dk_104 (dk_at dksX0_takes_2 12 rfl rfl)
theorem dX0_takes_60 : decode cX0_takes 60 = .ok (.iastore, 1) := dk_79 (dk_at dksX0_takes_2 13 rfl rfl)
theorem dX0_takes_61 : decode cX0_takes 61 = .ok (.aload_n 0, 1) := dk_42 (dk_at dksX0_takes_2 14 rfl rfl)
theorem dX0_takes_62 : decode cX0_takes 62 = .ok (.iconst 1, 1) := dk_4 (dk_at dksX0_takes_2 15 rfl rfl)
theorem dX0_takes_63 : decode cX0_takes 63 = .ok (.putfield 187, 3) := dk_181 0 187 (dk_at dksX0_takes_2 16 rfl rfl)
theorem dX0_takes_66 : decode cX0_takes 66 = .ok (.aload_n 0, 1) := dk_42 (dk_at dksX0_takes_2 19 rfl rfl)
theorem dX0_takes_67 : decode cX0_takes 67 = .ok (.aload_n 0, 1) := dk_42 (dk_at dksX0_takes_2 20 rfl rfl)
theorem dX0_takes_68 : decode cX0_takes 68 = .ok (.getfield 43, 3) := dk_180 0 43 (dk_at dksX0_takes_2 21 rfl rfl)
theorem dX0_takes_71 : decode cX0_takes 71 = .ok (.aload_n 1, 1) := dk_43 (dk_at dksX0_takes_3 0 rfl rfl)
theorem dX0_takes_72 : decode cX0_takes 72 = .ok (.sipush 200, 3) := dk_17 0 200 (dk_at dksX0_takes_3 1 rfl rfl)
theorem dX0_takes_75 : decode cX0_takes 75 = .ok (.invokevirtual 340, 3) := dk_182 1 84 (dk_at dksX0_takes_3 4 rfl rfl)
theorem dX0_takes_78 : decode cX0_takes 78 = .ok (.istore_n 3, 1) := dk_62 (dk_at dksX0_takes_3 7 rfl rfl)
theorem dX0_takes_79 : decode cX0_takes 79 = .ok (.aload_n 0, 1) := dk_42 (dk_at dksX0_takes_3 8 rfl rfl)
theorem dX0_takes_80 : decode cX0_takes 80 = .ok (.iconst 0, 1) := dk_3 (dk_at dksX0_takes_3 9 rfl rfl)
theorem dX0_takes_81 : decode cX0_takes 81 = .ok (.putfield 187, 3) := dk_181 0 187 (dk_at dksX0_takes_3 10 rfl rfl)
theorem dX0_takes_84 : decode cX0_takes 84 = .ok (.iload_n 3, 1) := dk_29 (dk_at dksX0_takes_3 13 rfl rfl)
theorem dX0_takes_85 : decode cX0_takes 85 = .ok (.iconst (-1), 1) := dk_2 (dk_at dksX0_takes_3 14 rfl rfl)
theorem dX0_takes_86 : decode cX0_takes 86 = .ok (.if_icmp .ne 9, 3) := dk_160 0 9 (dk_at dksX0_takes_3 15 rfl rfl)
theorem dX0_takes_89 : decode cX0_takes 89 = .ok (.sipush 200, 3) := dk_17 0 200 (dk_at dksX0_takes_3 18 rfl rfl)
theorem dX0_takes_92 : decode cX0_takes 92 = .ok (.goto 4, 3) := dk_167 0 4 (dk_at dksX0_takes_3 21 rfl rfl)
theorem dX0_takes_95 : decode cX0_takes 95 = .ok (.iload_n 3, 1) := dk_29 (dk_at dksX0_takes_4 0 rfl rfl)
theorem dX0_takes_96 : decode cX0_takes 96 = .ok (.ireturn, 1) := dk_172 (dk_at dksX0_takes_4 1 rfl rfl)
abbrev cX0_stillIn : ByteArray := prog_1_method_61_code
def yX0_stillIn : MethodName := ⟨RX0, "stillIn", "([ILHookSwings$Text;I)I"⟩
def dkwX0_stillIn_1 : List UInt8 := [182, 0, 221, 153, 0, 6, 21, 4, 172, 132, 4, 1, 167, 255, 225, 2, 172]
abbrev dktX0_stillIn_1 : List UInt8 := dkwX0_stillIn_1 ++ []
def dkwX0_stillIn_0 : List UInt8 := [4, 54, 4, 21, 4, 29, 163, 0, 31, 42, 43, 42, 43, 44, 182, 0, 207, 182, 0, 203, 42, 43]
abbrev dktX0_stillIn_0 : List UInt8 := dkwX0_stillIn_0 ++ dktX0_stillIn_1
theorem dksX0_stillIn_0 : cX0_stillIn.data.toList.drop 0 = dktX0_stillIn_0 := by decide +kernel
theorem dksX0_stillIn_1 : cX0_stillIn.data.toList.drop 22 = dktX0_stillIn_1 := dk_seg dksX0_stillIn_0 22 rfl rfl
theorem dX0_stillIn_0 : decode cX0_stillIn 0 = .ok (.iconst 1, 1) := dk_4 (dk_at dksX0_stillIn_0 0 rfl rfl)
theorem dX0_stillIn_1 : decode cX0_stillIn 1 = .ok (.istore 4, 2) := dk_54 4 (dk_at dksX0_stillIn_0 1 rfl rfl)
theorem dX0_stillIn_3 : decode cX0_stillIn 3 = .ok (.iload 4, 2) := dk_21 4 (dk_at dksX0_stillIn_0 3 rfl rfl)
theorem dX0_stillIn_5 : decode cX0_stillIn 5 = .ok (.iload_n 3, 1) := dk_29 (dk_at dksX0_stillIn_0 5 rfl rfl)
theorem dX0_stillIn_6 : decode cX0_stillIn 6 = .ok (.if_icmp .gt 31, 3) := dk_163 0 31 (dk_at dksX0_stillIn_0 6 rfl rfl)
theorem dX0_stillIn_9 : decode cX0_stillIn 9 = .ok (.aload_n 0, 1) := dk_42 (dk_at dksX0_stillIn_0 9 rfl rfl)
theorem dX0_stillIn_10 : decode cX0_stillIn 10 = .ok (.aload_n 1, 1) := dk_43 (dk_at dksX0_stillIn_0 10 rfl rfl)
theorem dX0_stillIn_11 : decode cX0_stillIn 11 = .ok (.aload_n 0, 1) := dk_42 (dk_at dksX0_stillIn_0 11 rfl rfl)
theorem dX0_stillIn_12 : decode cX0_stillIn 12 = .ok (.aload_n 1, 1) := dk_43 (dk_at dksX0_stillIn_0 12 rfl rfl)
theorem dX0_stillIn_13 : decode cX0_stillIn 13 = .ok (.aload_n 2, 1) := dk_44 (dk_at dksX0_stillIn_0 13 rfl rfl)
theorem dX0_stillIn_14 : decode cX0_stillIn 14 = .ok (.invokevirtual 207, 3) := dk_182 0 207 (dk_at dksX0_stillIn_0 14 rfl rfl)
theorem dX0_stillIn_17 : decode cX0_stillIn 17 = .ok (.invokevirtual 203, 3) := dk_182 0 203 (dk_at dksX0_stillIn_0 17 rfl rfl)
theorem dX0_stillIn_20 : decode cX0_stillIn 20 = .ok (.aload_n 0, 1) := dk_42 (dk_at dksX0_stillIn_0 20 rfl rfl)
theorem dX0_stillIn_21 : decode cX0_stillIn 21 = .ok (.aload_n 1, 1) := dk_43 (dk_at dksX0_stillIn_0 21 rfl rfl)
theorem dX0_stillIn_22 : decode cX0_stillIn 22 = .ok (.invokevirtual 221, 3) := dk_182 0 221 (dk_at dksX0_stillIn_1 0 rfl rfl)
theorem dX0_stillIn_25 : decode cX0_stillIn 25 = .ok (.ifCond .eq 6, 3) := dk_153 0 6 (dk_at dksX0_stillIn_1 3 rfl rfl)
theorem dX0_stillIn_28 : decode cX0_stillIn 28 = .ok (.iload 4, 2) := dk_21 4 (dk_at dksX0_stillIn_1 6 rfl rfl)
theorem dX0_stillIn_30 : decode cX0_stillIn 30 = .ok (.ireturn, 1) := dk_172 (dk_at dksX0_stillIn_1 8 rfl rfl)
theorem dX0_stillIn_31 : decode cX0_stillIn 31 = .ok (.iinc 4 1, 3) := dk_132 4 1 (dk_at dksX0_stillIn_1 9 rfl rfl)
theorem dX0_stillIn_34 : decode cX0_stillIn 34 = .ok (.goto (-31), 3) := dk_167 255 225 (dk_at dksX0_stillIn_1 12 rfl rfl)
theorem dX0_stillIn_37 : decode cX0_stillIn 37 = .ok (.iconst (-1), 1) := dk_2 (dk_at dksX0_stillIn_1 15 rfl rfl)
theorem dX0_stillIn_38 : decode cX0_stillIn 38 = .ok (.ireturn, 1) := dk_172 (dk_at dksX0_stillIn_1 16 rfl rfl)
abbrev cX0_whenToGo : ByteArray := prog_1_method_64_code
def yX0_whenToGo : MethodName := ⟨RX0, "whenToGo", "()I"⟩
def dkwX0_whenToGo_4 : List UInt8 := [167, 255, 189, 27, 172]
abbrev dktX0_whenToGo_4 : List UInt8 := dkwX0_whenToGo_4 ++ []
def dkwX0_whenToGo_3 : List UInt8 := [159, 0, 10, 29, 60, 29, 21, 4, 96, 61, 42, 42, 180, 0, 54, 3, 182, 0, 203, 132, 3, 1]
abbrev dktX0_whenToGo_3 : List UInt8 := dkwX0_whenToGo_3 ++ dktX0_whenToGo_4
def dkwX0_whenToGo_2 : List UInt8 := [182, 0, 154, 17, 0, 200, 28, 4, 100, 184, 1, 92, 29, 100, 182, 1, 84, 54, 4, 21, 4, 2]
abbrev dktX0_whenToGo_2 : List UInt8 := dkwX0_whenToGo_2 ++ dktX0_whenToGo_3
def dkwX0_whenToGo_1 : List UInt8 := [16, 60, 163, 0, 67, 42, 180, 0, 54, 42, 180, 0, 43, 184, 0, 89, 42, 42, 180, 0, 43, 42]
abbrev dktX0_whenToGo_1 : List UInt8 := dkwX0_whenToGo_1 ++ dktX0_whenToGo_2
def dkwX0_whenToGo_0 : List UInt8 := [2, 60, 17, 0, 201, 61, 42, 180, 0, 21, 180, 0, 176, 42, 180, 0, 54, 184, 0, 89, 3, 62, 29]
abbrev dktX0_whenToGo_0 : List UInt8 := dkwX0_whenToGo_0 ++ dktX0_whenToGo_1
theorem dksX0_whenToGo_0 : cX0_whenToGo.data.toList.drop 0 = dktX0_whenToGo_0 := by decide +kernel
theorem dksX0_whenToGo_1 : cX0_whenToGo.data.toList.drop 23 = dktX0_whenToGo_1 := dk_seg dksX0_whenToGo_0 23 rfl rfl
theorem dksX0_whenToGo_2 : cX0_whenToGo.data.toList.drop 45 = dktX0_whenToGo_2 := dk_seg dksX0_whenToGo_1 22 rfl rfl
theorem dksX0_whenToGo_3 : cX0_whenToGo.data.toList.drop 67 = dktX0_whenToGo_3 := dk_seg dksX0_whenToGo_2 22 rfl rfl
theorem dksX0_whenToGo_4 : cX0_whenToGo.data.toList.drop 89 = dktX0_whenToGo_4 := dk_seg dksX0_whenToGo_3 22 rfl rfl
theorem dX0_whenToGo_0 : decode cX0_whenToGo 0 = .ok (.iconst (-1), 1) := dk_2 (dk_at dksX0_whenToGo_0 0 rfl rfl)
theorem dX0_whenToGo_1 : decode cX0_whenToGo 1 = .ok (.istore_n 1, 1) := dk_60 (dk_at dksX0_whenToGo_0 1 rfl rfl)
theorem dX0_whenToGo_2 : decode cX0_whenToGo 2 = .ok (.sipush 201, 3) := dk_17 0 201 (dk_at dksX0_whenToGo_0 2 rfl rfl)
theorem dX0_whenToGo_5 : decode cX0_whenToGo 5 = .ok (.istore_n 2, 1) := dk_61 (dk_at dksX0_whenToGo_0 5 rfl rfl)
theorem dX0_whenToGo_6 : decode cX0_whenToGo 6 = .ok (.aload_n 0, 1) := dk_42 (dk_at dksX0_whenToGo_0 6 rfl rfl)
theorem dX0_whenToGo_7 : decode cX0_whenToGo 7 = .ok (.getfield 21, 3) := dk_180 0 21 (dk_at dksX0_whenToGo_0 7 rfl rfl)
theorem dX0_whenToGo_10 : decode cX0_whenToGo 10 = .ok (.getfield 176, 3) := dk_180 0 176 (dk_at dksX0_whenToGo_0 10 rfl rfl)
theorem dX0_whenToGo_13 : decode cX0_whenToGo 13 = .ok (.aload_n 0, 1) := dk_42 (dk_at dksX0_whenToGo_0 13 rfl rfl)
theorem dX0_whenToGo_14 : decode cX0_whenToGo 14 = .ok (.getfield 54, 3) := dk_180 0 54 (dk_at dksX0_whenToGo_0 14 rfl rfl)
theorem dX0_whenToGo_17 : decode cX0_whenToGo 17 = .ok (.invokestatic 89, 3) := dk_184 0 89 (dk_at dksX0_whenToGo_0 17 rfl rfl)
theorem dX0_whenToGo_20 : decode cX0_whenToGo 20 = .ok (.iconst 0, 1) := dk_3 (dk_at dksX0_whenToGo_0 20 rfl rfl)
theorem dX0_whenToGo_21 : decode cX0_whenToGo 21 = .ok (.istore_n 3, 1) := dk_62 (dk_at dksX0_whenToGo_0 21 rfl rfl)
theorem dX0_whenToGo_22 : decode cX0_whenToGo 22 = .ok (.iload_n 3, 1) := dk_29 (dk_at dksX0_whenToGo_0 22 rfl rfl)
theorem dX0_whenToGo_23 : decode cX0_whenToGo 23 = .ok (.bipush 60, 2) := dk_16 60 (dk_at dksX0_whenToGo_1 0 rfl rfl)
theorem dX0_whenToGo_25 : decode cX0_whenToGo 25 = .ok (.if_icmp .gt 67, 3) := dk_163 0 67 (dk_at dksX0_whenToGo_1 2 rfl rfl)
theorem dX0_whenToGo_28 : decode cX0_whenToGo 28 = .ok (.aload_n 0, 1) := dk_42 (dk_at dksX0_whenToGo_1 5 rfl rfl)
theorem dX0_whenToGo_29 : decode cX0_whenToGo 29 = .ok (.getfield 54, 3) := dk_180 0 54 (dk_at dksX0_whenToGo_1 6 rfl rfl)
theorem dX0_whenToGo_32 : decode cX0_whenToGo 32 = .ok (.aload_n 0, 1) := dk_42 (dk_at dksX0_whenToGo_1 9 rfl rfl)
theorem dX0_whenToGo_33 : decode cX0_whenToGo 33 = .ok (.getfield 43, 3) := dk_180 0 43 (dk_at dksX0_whenToGo_1 10 rfl rfl)
theorem dX0_whenToGo_36 : decode cX0_whenToGo 36 = .ok (.invokestatic 89, 3) := dk_184 0 89 (dk_at dksX0_whenToGo_1 13 rfl rfl)
theorem dX0_whenToGo_39 : decode cX0_whenToGo 39 = .ok (.aload_n 0, 1) := dk_42 (dk_at dksX0_whenToGo_1 16 rfl rfl)
theorem dX0_whenToGo_40 : decode cX0_whenToGo 40 = .ok (.aload_n 0, 1) := dk_42 (dk_at dksX0_whenToGo_1 17 rfl rfl)
theorem dX0_whenToGo_41 : decode cX0_whenToGo 41 = .ok (.getfield 43, 3) := dk_180 0 43 (dk_at dksX0_whenToGo_1 18 rfl rfl)
theorem dX0_whenToGo_44 : decode cX0_whenToGo 44 = .ok (.aload_n 0, 1) := dk_42 (dk_at dksX0_whenToGo_1 21 rfl rfl)
theorem dX0_whenToGo_45 : decode cX0_whenToGo 45 = .ok (.invokevirtual 154, 3) := dk_182 0 154 (dk_at dksX0_whenToGo_2 0 rfl rfl)
theorem dX0_whenToGo_48 : decode cX0_whenToGo 48 = .ok (.sipush 200, 3) := dk_17 0 200 (dk_at dksX0_whenToGo_2 3 rfl rfl)
theorem dX0_whenToGo_51 : decode cX0_whenToGo 51 = .ok (.iload_n 2, 1) := dk_28 (dk_at dksX0_whenToGo_2 6 rfl rfl)
theorem dX0_whenToGo_52 : decode cX0_whenToGo 52 = .ok (.iconst 1, 1) := dk_4 (dk_at dksX0_whenToGo_2 7 rfl rfl)
theorem dX0_whenToGo_53 : decode cX0_whenToGo 53 = .ok (.isub, 1) := dk_100 (dk_at dksX0_whenToGo_2 8 rfl rfl)
theorem dX0_whenToGo_54 : decode cX0_whenToGo 54 = .ok (.invokestatic 348, 3) := dk_184 1 92 (dk_at dksX0_whenToGo_2 9 rfl rfl)
theorem dX0_whenToGo_57 : decode cX0_whenToGo 57 = .ok (.iload_n 3, 1) := dk_29 (dk_at dksX0_whenToGo_2 12 rfl rfl)
theorem dX0_whenToGo_58 : decode cX0_whenToGo 58 = .ok (.isub, 1) := dk_100 (dk_at dksX0_whenToGo_2 13 rfl rfl)
theorem dX0_whenToGo_59 : decode cX0_whenToGo 59 = .ok (.invokevirtual 340, 3) := dk_182 1 84 (dk_at dksX0_whenToGo_2 14 rfl rfl)
theorem dX0_whenToGo_62 : decode cX0_whenToGo 62 = .ok (.istore 4, 2) := dk_54 4 (dk_at dksX0_whenToGo_2 17 rfl rfl)
theorem dX0_whenToGo_64 : decode cX0_whenToGo 64 = .ok (.iload 4, 2) := dk_21 4 (dk_at dksX0_whenToGo_2 19 rfl rfl)
theorem dX0_whenToGo_66 : decode cX0_whenToGo 66 = .ok (.iconst (-1), 1) := dk_2 (dk_at dksX0_whenToGo_2 21 rfl rfl)
theorem dX0_whenToGo_67 : decode cX0_whenToGo 67 = .ok (.if_icmp .eq 10, 3) := dk_159 0 10 (dk_at dksX0_whenToGo_3 0 rfl rfl)
theorem dX0_whenToGo_70 : decode cX0_whenToGo 70 = .ok (.iload_n 3, 1) := dk_29 (dk_at dksX0_whenToGo_3 3 rfl rfl)
theorem dX0_whenToGo_71 : decode cX0_whenToGo 71 = .ok (.istore_n 1, 1) := dk_60 (dk_at dksX0_whenToGo_3 4 rfl rfl)
theorem dX0_whenToGo_72 : decode cX0_whenToGo 72 = .ok (.iload_n 3, 1) := dk_29 (dk_at dksX0_whenToGo_3 5 rfl rfl)
theorem dX0_whenToGo_73 : decode cX0_whenToGo 73 = .ok (.iload 4, 2) := dk_21 4 (dk_at dksX0_whenToGo_3 6 rfl rfl)
theorem dX0_whenToGo_75 : decode cX0_whenToGo 75 = .ok (.iadd, 1) := dk_96 (dk_at dksX0_whenToGo_3 8 rfl rfl)
theorem dX0_whenToGo_76 : decode cX0_whenToGo 76 = .ok (.istore_n 2, 1) := dk_61 (dk_at dksX0_whenToGo_3 9 rfl rfl)
theorem dX0_whenToGo_77 : decode cX0_whenToGo 77 = .ok (.aload_n 0, 1) := dk_42 (dk_at dksX0_whenToGo_3 10 rfl rfl)
theorem dX0_whenToGo_78 : decode cX0_whenToGo 78 = .ok (.aload_n 0, 1) := dk_42 (dk_at dksX0_whenToGo_3 11 rfl rfl)
theorem dX0_whenToGo_79 : decode cX0_whenToGo 79 = .ok (.getfield 54, 3) := dk_180 0 54 (dk_at dksX0_whenToGo_3 12 rfl rfl)
theorem dX0_whenToGo_82 : decode cX0_whenToGo 82 = .ok (.iconst 0, 1) := dk_3 (dk_at dksX0_whenToGo_3 15 rfl rfl)
theorem dX0_whenToGo_83 : decode cX0_whenToGo 83 = .ok (.invokevirtual 203, 3) := dk_182 0 203 (dk_at dksX0_whenToGo_3 16 rfl rfl)
theorem dX0_whenToGo_86 : decode cX0_whenToGo 86 = .ok (.iinc 3 1, 3) := dk_132 3 1 (dk_at dksX0_whenToGo_3 19 rfl rfl)
theorem dX0_whenToGo_89 : decode cX0_whenToGo 89 = .ok (.goto (-67), 3) := dk_167 255 189 (dk_at dksX0_whenToGo_4 0 rfl rfl)
theorem dX0_whenToGo_92 : decode cX0_whenToGo 92 = .ok (.iload_n 1, 1) := dk_27 (dk_at dksX0_whenToGo_4 3 rfl rfl)
theorem dX0_whenToGo_93 : decode cX0_whenToGo 93 = .ok (.ireturn, 1) := dk_172 (dk_at dksX0_whenToGo_4 4 rfl rfl)
abbrev cX0_whichRope : ByteArray := prog_1_method_65_code
def yX0_whichRope : MethodName := ⟨RX0, "whichRope", "()I"⟩
def dkwX0_whichRope_3 : List UInt8 := [167, 255, 195, 27, 172]
abbrev dktX0_whichRope_3 : List UInt8 := dkwX0_whichRope_3 ++ []
def dkwX0_whichRope_2 : List UInt8 := [100, 182, 1, 84, 54, 4, 21, 4, 2, 160, 0, 6, 167, 0, 8, 29, 60, 21, 4, 61, 132, 3, 1]
abbrev dktX0_whichRope_2 : List UInt8 := dkwX0_whichRope_2 ++ dktX0_whichRope_3
def dkwX0_whichRope_1 : List UInt8 := [180, 0, 43, 184, 0, 89, 42, 180, 0, 43, 7, 29, 79, 42, 42, 180, 0, 43, 42, 182, 0, 154, 28, 4]
abbrev dktX0_whichRope_1 : List UInt8 := dkwX0_whichRope_1 ++ dktX0_whichRope_2
def dkwX0_whichRope_0 : List UInt8 := [2, 60, 17, 0, 201, 61, 4, 62, 29, 16, 24, 163, 0, 61, 42, 180, 0, 21, 180, 0, 176, 42]
abbrev dktX0_whichRope_0 : List UInt8 := dkwX0_whichRope_0 ++ dktX0_whichRope_1
theorem dksX0_whichRope_0 : cX0_whichRope.data.toList.drop 0 = dktX0_whichRope_0 := by decide +kernel
theorem dksX0_whichRope_1 : cX0_whichRope.data.toList.drop 22 = dktX0_whichRope_1 := dk_seg dksX0_whichRope_0 22 rfl rfl
theorem dksX0_whichRope_2 : cX0_whichRope.data.toList.drop 46 = dktX0_whichRope_2 := dk_seg dksX0_whichRope_1 24 rfl rfl
theorem dksX0_whichRope_3 : cX0_whichRope.data.toList.drop 69 = dktX0_whichRope_3 := dk_seg dksX0_whichRope_2 23 rfl rfl
theorem dX0_whichRope_0 : decode cX0_whichRope 0 = .ok (.iconst (-1), 1) := dk_2 (dk_at dksX0_whichRope_0 0 rfl rfl)
theorem dX0_whichRope_1 : decode cX0_whichRope 1 = .ok (.istore_n 1, 1) := dk_60 (dk_at dksX0_whichRope_0 1 rfl rfl)
theorem dX0_whichRope_2 : decode cX0_whichRope 2 = .ok (.sipush 201, 3) := dk_17 0 201 (dk_at dksX0_whichRope_0 2 rfl rfl)
theorem dX0_whichRope_5 : decode cX0_whichRope 5 = .ok (.istore_n 2, 1) := dk_61 (dk_at dksX0_whichRope_0 5 rfl rfl)
theorem dX0_whichRope_6 : decode cX0_whichRope 6 = .ok (.iconst 1, 1) := dk_4 (dk_at dksX0_whichRope_0 6 rfl rfl)
theorem dX0_whichRope_7 : decode cX0_whichRope 7 = .ok (.istore_n 3, 1) := dk_62 (dk_at dksX0_whichRope_0 7 rfl rfl)
theorem dX0_whichRope_8 : decode cX0_whichRope 8 = .ok (.iload_n 3, 1) := dk_29 (dk_at dksX0_whichRope_0 8 rfl rfl)
theorem dX0_whichRope_9 : decode cX0_whichRope 9 = .ok (.bipush 24, 2) := dk_16 24 (dk_at dksX0_whichRope_0 9 rfl rfl)
theorem dX0_whichRope_11 : decode cX0_whichRope 11 = .ok (.if_icmp .gt 61, 3) := dk_163 0 61 (dk_at dksX0_whichRope_0 11 rfl rfl)
theorem dX0_whichRope_14 : decode cX0_whichRope 14 = .ok (.aload_n 0, 1) := dk_42 (dk_at dksX0_whichRope_0 14 rfl rfl)
theorem dX0_whichRope_15 : decode cX0_whichRope 15 = .ok (.getfield 21, 3) := dk_180 0 21 (dk_at dksX0_whichRope_0 15 rfl rfl)
theorem dX0_whichRope_18 : decode cX0_whichRope 18 = .ok (.getfield 176, 3) := dk_180 0 176 (dk_at dksX0_whichRope_0 18 rfl rfl)
theorem dX0_whichRope_21 : decode cX0_whichRope 21 = .ok (.aload_n 0, 1) := dk_42 (dk_at dksX0_whichRope_0 21 rfl rfl)
theorem dX0_whichRope_22 : decode cX0_whichRope 22 = .ok (.getfield 43, 3) := dk_180 0 43 (dk_at dksX0_whichRope_1 0 rfl rfl)
theorem dX0_whichRope_25 : decode cX0_whichRope 25 = .ok (.invokestatic 89, 3) := dk_184 0 89 (dk_at dksX0_whichRope_1 3 rfl rfl)
theorem dX0_whichRope_28 : decode cX0_whichRope 28 = .ok (.aload_n 0, 1) := dk_42 (dk_at dksX0_whichRope_1 6 rfl rfl)
theorem dX0_whichRope_29 : decode cX0_whichRope 29 = .ok (.getfield 43, 3) := dk_180 0 43 (dk_at dksX0_whichRope_1 7 rfl rfl)
theorem dX0_whichRope_32 : decode cX0_whichRope 32 = .ok (.iconst 4, 1) := dk_7 (dk_at dksX0_whichRope_1 10 rfl rfl)
theorem dX0_whichRope_33 : decode cX0_whichRope 33 = .ok (.iload_n 3, 1) := dk_29 (dk_at dksX0_whichRope_1 11 rfl rfl)
theorem dX0_whichRope_34 : decode cX0_whichRope 34 = .ok (.iastore, 1) := dk_79 (dk_at dksX0_whichRope_1 12 rfl rfl)
theorem dX0_whichRope_35 : decode cX0_whichRope 35 = .ok (.aload_n 0, 1) := dk_42 (dk_at dksX0_whichRope_1 13 rfl rfl)
theorem dX0_whichRope_36 : decode cX0_whichRope 36 = .ok (.aload_n 0, 1) := dk_42 (dk_at dksX0_whichRope_1 14 rfl rfl)
theorem dX0_whichRope_37 : decode cX0_whichRope 37 = .ok (.getfield 43, 3) := dk_180 0 43 (dk_at dksX0_whichRope_1 15 rfl rfl)
theorem dX0_whichRope_40 : decode cX0_whichRope 40 = .ok (.aload_n 0, 1) := dk_42 (dk_at dksX0_whichRope_1 18 rfl rfl)
theorem dX0_whichRope_41 : decode cX0_whichRope 41 = .ok (.invokevirtual 154, 3) := dk_182 0 154 (dk_at dksX0_whichRope_1 19 rfl rfl)
theorem dX0_whichRope_44 : decode cX0_whichRope 44 = .ok (.iload_n 2, 1) := dk_28 (dk_at dksX0_whichRope_1 22 rfl rfl)
theorem dX0_whichRope_45 : decode cX0_whichRope 45 = .ok (.iconst 1, 1) := dk_4 (dk_at dksX0_whichRope_1 23 rfl rfl)
theorem dX0_whichRope_46 : decode cX0_whichRope 46 = .ok (.isub, 1) := dk_100 (dk_at dksX0_whichRope_2 0 rfl rfl)
theorem dX0_whichRope_47 : decode cX0_whichRope 47 = .ok (.invokevirtual 340, 3) := dk_182 1 84 (dk_at dksX0_whichRope_2 1 rfl rfl)
theorem dX0_whichRope_50 : decode cX0_whichRope 50 = .ok (.istore 4, 2) := dk_54 4 (dk_at dksX0_whichRope_2 4 rfl rfl)
theorem dX0_whichRope_52 : decode cX0_whichRope 52 = .ok (.iload 4, 2) := dk_21 4 (dk_at dksX0_whichRope_2 6 rfl rfl)
theorem dX0_whichRope_54 : decode cX0_whichRope 54 = .ok (.iconst (-1), 1) := dk_2 (dk_at dksX0_whichRope_2 8 rfl rfl)
theorem dX0_whichRope_55 : decode cX0_whichRope 55 = .ok (.if_icmp .ne 6, 3) := dk_160 0 6 (dk_at dksX0_whichRope_2 9 rfl rfl)
theorem dX0_whichRope_58 : decode cX0_whichRope 58 = .ok (.goto 8, 3) := dk_167 0 8 (dk_at dksX0_whichRope_2 12 rfl rfl)
theorem dX0_whichRope_61 : decode cX0_whichRope 61 = .ok (.iload_n 3, 1) := dk_29 (dk_at dksX0_whichRope_2 15 rfl rfl)
theorem dX0_whichRope_62 : decode cX0_whichRope 62 = .ok (.istore_n 1, 1) := dk_60 (dk_at dksX0_whichRope_2 16 rfl rfl)
theorem dX0_whichRope_63 : decode cX0_whichRope 63 = .ok (.iload 4, 2) := dk_21 4 (dk_at dksX0_whichRope_2 17 rfl rfl)
theorem dX0_whichRope_65 : decode cX0_whichRope 65 = .ok (.istore_n 2, 1) := dk_61 (dk_at dksX0_whichRope_2 19 rfl rfl)
theorem dX0_whichRope_66 : decode cX0_whichRope 66 = .ok (.iinc 3 1, 3) := dk_132 3 1 (dk_at dksX0_whichRope_2 20 rfl rfl)
theorem dX0_whichRope_69 : decode cX0_whichRope 69 = .ok (.goto (-61), 3) := dk_167 255 195 (dk_at dksX0_whichRope_3 0 rfl rfl)
theorem dX0_whichRope_72 : decode cX0_whichRope 72 = .ok (.iload_n 1, 1) := dk_27 (dk_at dksX0_whichRope_3 3 rfl rfl)
theorem dX0_whichRope_73 : decode cX0_whichRope 73 = .ok (.ireturn, 1) := dk_172 (dk_at dksX0_whichRope_3 4 rfl rfl)
abbrev cX0_bar : ByteArray := prog_1_method_66_code
def yX0_bar : MethodName := ⟨RX0, "bar", "(IIII)I"⟩
def dkwX0_bar_6 : List UInt8 := [42, 180, 0, 21, 180, 0, 79, 16, 6, 46, 172]
abbrev dktX0_bar_6 : List UInt8 := dkwX0_bar_6 ++ []
def dkwX0_bar_5 : List UInt8 := [180, 0, 79, 16, 6, 46, 50, 184, 0, 89, 42, 180, 0, 21, 180, 0, 79, 16, 6, 92, 46, 4, 96, 79]
abbrev dktX0_bar_5 : List UInt8 := dkwX0_bar_5 ++ dktX0_bar_6
def dkwX0_bar_4 : List UInt8 := [89, 5, 29, 79, 89, 6, 21, 4, 79, 58, 5, 25, 5, 42, 180, 0, 21, 180, 1, 94, 42, 180, 0, 21]
abbrev dktX0_bar_4 : List UInt8 := dkwX0_bar_4 ++ dktX0_bar_5
def dkwX0_bar_3 : List UInt8 := [180, 0, 79, 16, 6, 46, 7, 160, 0, 6, 16, 254, 172, 7, 188, 10, 89, 3, 27, 79, 89, 4, 28, 79]
abbrev dktX0_bar_3 : List UInt8 := dkwX0_bar_3 ++ dktX0_bar_4
def dkwX0_bar_2 : List UInt8 := [184, 0, 82, 153, 0, 29, 21, 4, 29, 17, 39, 15, 184, 0, 82, 153, 0, 17, 42, 180, 0, 21]
abbrev dktX0_bar_2 : List UInt8 := dkwX0_bar_2 ++ dktX0_bar_3
def dkwX0_bar_1 : List UInt8 := [184, 0, 82, 153, 0, 51, 28, 27, 17, 2, 88, 184, 0, 82, 153, 0, 40, 29, 3, 17, 39, 15]
abbrev dktX0_bar_1 : List UInt8 := dkwX0_bar_1 ++ dktX0_bar_2
def dkwX0_bar_0 : List UInt8 := [27, 2, 160, 0, 16, 42, 180, 0, 21, 180, 0, 79, 16, 6, 3, 79, 3, 172, 27, 3, 17, 2, 88]
abbrev dktX0_bar_0 : List UInt8 := dkwX0_bar_0 ++ dktX0_bar_1
theorem dksX0_bar_0 : cX0_bar.data.toList.drop 0 = dktX0_bar_0 := by decide +kernel
theorem dksX0_bar_1 : cX0_bar.data.toList.drop 23 = dktX0_bar_1 := dk_seg dksX0_bar_0 23 rfl rfl
theorem dksX0_bar_2 : cX0_bar.data.toList.drop 45 = dktX0_bar_2 := dk_seg dksX0_bar_1 22 rfl rfl
theorem dksX0_bar_3 : cX0_bar.data.toList.drop 67 = dktX0_bar_3 := dk_seg dksX0_bar_2 22 rfl rfl
theorem dksX0_bar_4 : cX0_bar.data.toList.drop 91 = dktX0_bar_4 := dk_seg dksX0_bar_3 24 rfl rfl
theorem dksX0_bar_5 : cX0_bar.data.toList.drop 115 = dktX0_bar_5 := dk_seg dksX0_bar_4 24 rfl rfl
theorem dksX0_bar_6 : cX0_bar.data.toList.drop 139 = dktX0_bar_6 := dk_seg dksX0_bar_5 24 rfl rfl
theorem dX0_bar_0 : decode cX0_bar 0 = .ok (.iload_n 1, 1) := dk_27 (dk_at dksX0_bar_0 0 rfl rfl)
theorem dX0_bar_1 : decode cX0_bar 1 = .ok (.iconst (-1), 1) := dk_2 (dk_at dksX0_bar_0 1 rfl rfl)
theorem dX0_bar_2 : decode cX0_bar 2 = .ok (.if_icmp .ne 16, 3) := dk_160 0 16 (dk_at dksX0_bar_0 2 rfl rfl)
theorem dX0_bar_5 : decode cX0_bar 5 = .ok (.aload_n 0, 1) := dk_42 (dk_at dksX0_bar_0 5 rfl rfl)
theorem dX0_bar_6 : decode cX0_bar 6 = .ok (.getfield 21, 3) := dk_180 0 21 (dk_at dksX0_bar_0 6 rfl rfl)
theorem dX0_bar_9 : decode cX0_bar 9 = .ok (.getfield 79, 3) := dk_180 0 79 (dk_at dksX0_bar_0 9 rfl rfl)
theorem dX0_bar_12 : decode cX0_bar 12 = .ok (.bipush 6, 2) := dk_16 6 (dk_at dksX0_bar_0 12 rfl rfl)
theorem dX0_bar_14 : decode cX0_bar 14 = .ok (.iconst 0, 1) := dk_3 (dk_at dksX0_bar_0 14 rfl rfl)
theorem dX0_bar_15 : decode cX0_bar 15 = .ok (.iastore, 1) := dk_79 (dk_at dksX0_bar_0 15 rfl rfl)
theorem dX0_bar_16 : decode cX0_bar 16 = .ok (.iconst 0, 1) := dk_3 (dk_at dksX0_bar_0 16 rfl rfl)
theorem dX0_bar_17 : decode cX0_bar 17 = .ok (.ireturn, 1) := dk_172 (dk_at dksX0_bar_0 17 rfl rfl)
theorem dX0_bar_18 : decode cX0_bar 18 = .ok (.iload_n 1, 1) := dk_27 (dk_at dksX0_bar_0 18 rfl rfl)
theorem dX0_bar_19 : decode cX0_bar 19 = .ok (.iconst 0, 1) := dk_3 (dk_at dksX0_bar_0 19 rfl rfl)
theorem dX0_bar_20 : decode cX0_bar 20 = .ok (.sipush 600, 3) := dk_17 2 88 (dk_at dksX0_bar_0 20 rfl rfl)
theorem dX0_bar_23 : decode cX0_bar 23 = .ok (.invokestatic 82, 3) := dk_184 0 82 (dk_at dksX0_bar_1 0 rfl rfl)
theorem dX0_bar_26 : decode cX0_bar 26 = .ok (.ifCond .eq 51, 3) := dk_153 0 51 (dk_at dksX0_bar_1 3 rfl rfl)
theorem dX0_bar_29 : decode cX0_bar 29 = .ok (.iload_n 2, 1) := dk_28 (dk_at dksX0_bar_1 6 rfl rfl)
theorem dX0_bar_30 : decode cX0_bar 30 = .ok (.iload_n 1, 1) := dk_27 (dk_at dksX0_bar_1 7 rfl rfl)
theorem dX0_bar_31 : decode cX0_bar 31 = .ok (.sipush 600, 3) := dk_17 2 88 (dk_at dksX0_bar_1 8 rfl rfl)
theorem dX0_bar_34 : decode cX0_bar 34 = .ok (.invokestatic 82, 3) := dk_184 0 82 (dk_at dksX0_bar_1 11 rfl rfl)
theorem dX0_bar_37 : decode cX0_bar 37 = .ok (.ifCond .eq 40, 3) := dk_153 0 40 (dk_at dksX0_bar_1 14 rfl rfl)
theorem dX0_bar_40 : decode cX0_bar 40 = .ok (.iload_n 3, 1) := dk_29 (dk_at dksX0_bar_1 17 rfl rfl)
theorem dX0_bar_41 : decode cX0_bar 41 = .ok (.iconst 0, 1) := dk_3 (dk_at dksX0_bar_1 18 rfl rfl)
theorem dX0_bar_42 : decode cX0_bar 42 = .ok (.sipush 9999, 3) := dk_17 39 15 (dk_at dksX0_bar_1 19 rfl rfl)
theorem dX0_bar_45 : decode cX0_bar 45 = .ok (.invokestatic 82, 3) := dk_184 0 82 (dk_at dksX0_bar_2 0 rfl rfl)
theorem dX0_bar_48 : decode cX0_bar 48 = .ok (.ifCond .eq 29, 3) := dk_153 0 29 (dk_at dksX0_bar_2 3 rfl rfl)
theorem dX0_bar_51 : decode cX0_bar 51 = .ok (.iload 4, 2) := dk_21 4 (dk_at dksX0_bar_2 6 rfl rfl)
theorem dX0_bar_53 : decode cX0_bar 53 = .ok (.iload_n 3, 1) := dk_29 (dk_at dksX0_bar_2 8 rfl rfl)
theorem dX0_bar_54 : decode cX0_bar 54 = .ok (.sipush 9999, 3) := dk_17 39 15 (dk_at dksX0_bar_2 9 rfl rfl)
theorem dX0_bar_57 : decode cX0_bar 57 = .ok (.invokestatic 82, 3) := dk_184 0 82 (dk_at dksX0_bar_2 12 rfl rfl)
theorem dX0_bar_60 : decode cX0_bar 60 = .ok (.ifCond .eq 17, 3) := dk_153 0 17 (dk_at dksX0_bar_2 15 rfl rfl)
theorem dX0_bar_63 : decode cX0_bar 63 = .ok (.aload_n 0, 1) := dk_42 (dk_at dksX0_bar_2 18 rfl rfl)
theorem dX0_bar_64 : decode cX0_bar 64 = .ok (.getfield 21, 3) := dk_180 0 21 (dk_at dksX0_bar_2 19 rfl rfl)
theorem dX0_bar_67 : decode cX0_bar 67 = .ok (.getfield 79, 3) := dk_180 0 79 (dk_at dksX0_bar_3 0 rfl rfl)
theorem dX0_bar_70 : decode cX0_bar 70 = .ok (.bipush 6, 2) := dk_16 6 (dk_at dksX0_bar_3 3 rfl rfl)
theorem dX0_bar_72 : decode cX0_bar 72 = .ok (.iaload, 1) := dk_46 (dk_at dksX0_bar_3 5 rfl rfl)
theorem dX0_bar_73 : decode cX0_bar 73 = .ok (.iconst 4, 1) := dk_7 (dk_at dksX0_bar_3 6 rfl rfl)
theorem dX0_bar_74 : decode cX0_bar 74 = .ok (.if_icmp .ne 6, 3) := dk_160 0 6 (dk_at dksX0_bar_3 7 rfl rfl)
theorem dX0_bar_77 : decode cX0_bar 77 = .ok (.bipush (-2), 2) := dk_16 254 (dk_at dksX0_bar_3 10 rfl rfl)
theorem dX0_bar_79 : decode cX0_bar 79 = .ok (.ireturn, 1) := dk_172 (dk_at dksX0_bar_3 12 rfl rfl)
theorem dX0_bar_80 : decode cX0_bar 80 = .ok (.iconst 4, 1) := dk_7 (dk_at dksX0_bar_3 13 rfl rfl)
theorem dX0_bar_81 : decode cX0_bar 81 = .ok (.newarray .int, 2) := dk_188_10 (dk_at dksX0_bar_3 14 rfl rfl)
theorem dX0_bar_83 : decode cX0_bar 83 = .ok (.dup, 1) := dk_89 (dk_at dksX0_bar_3 16 rfl rfl)
theorem dX0_bar_84 : decode cX0_bar 84 = .ok (.iconst 0, 1) := dk_3 (dk_at dksX0_bar_3 17 rfl rfl)
theorem dX0_bar_85 : decode cX0_bar 85 = .ok (.iload_n 1, 1) := dk_27 (dk_at dksX0_bar_3 18 rfl rfl)
theorem dX0_bar_86 : decode cX0_bar 86 = .ok (.iastore, 1) := dk_79 (dk_at dksX0_bar_3 19 rfl rfl)
theorem dX0_bar_87 : decode cX0_bar 87 = .ok (.dup, 1) := dk_89 (dk_at dksX0_bar_3 20 rfl rfl)
theorem dX0_bar_88 : decode cX0_bar 88 = .ok (.iconst 1, 1) := dk_4 (dk_at dksX0_bar_3 21 rfl rfl)
theorem dX0_bar_89 : decode cX0_bar 89 = .ok (.iload_n 2, 1) := dk_28 (dk_at dksX0_bar_3 22 rfl rfl)
theorem dX0_bar_90 : decode cX0_bar 90 = .ok (.iastore, 1) := dk_79 (dk_at dksX0_bar_3 23 rfl rfl)
theorem dX0_bar_91 : decode cX0_bar 91 = .ok (.dup, 1) := dk_89 (dk_at dksX0_bar_4 0 rfl rfl)
theorem dX0_bar_92 : decode cX0_bar 92 = .ok (.iconst 2, 1) := dk_5 (dk_at dksX0_bar_4 1 rfl rfl)
theorem dX0_bar_93 : decode cX0_bar 93 = .ok (.iload_n 3, 1) := dk_29 (dk_at dksX0_bar_4 2 rfl rfl)
theorem dX0_bar_94 : decode cX0_bar 94 = .ok (.iastore, 1) := dk_79 (dk_at dksX0_bar_4 3 rfl rfl)
theorem dX0_bar_95 : decode cX0_bar 95 = .ok (.dup, 1) := dk_89 (dk_at dksX0_bar_4 4 rfl rfl)
theorem dX0_bar_96 : decode cX0_bar 96 = .ok (.iconst 3, 1) := dk_6 (dk_at dksX0_bar_4 5 rfl rfl)
theorem dX0_bar_97 : decode cX0_bar 97 = .ok (.iload 4, 2) := dk_21 4 (dk_at dksX0_bar_4 6 rfl rfl)
theorem dX0_bar_99 : decode cX0_bar 99 = .ok (.iastore, 1) := dk_79 (dk_at dksX0_bar_4 8 rfl rfl)
theorem dX0_bar_100 : decode cX0_bar 100 = .ok (.astore 5, 2) := dk_58 5 (dk_at dksX0_bar_4 9 rfl rfl)
theorem dX0_bar_102 : decode cX0_bar 102 = .ok (.aload 5, 2) := dk_25 5 (dk_at dksX0_bar_4 11 rfl rfl)
theorem dX0_bar_104 : decode cX0_bar 104 = .ok (.aload_n 0, 1) := dk_42 (dk_at dksX0_bar_4 13 rfl rfl)
theorem dX0_bar_105 : decode cX0_bar 105 = .ok (.getfield 21, 3) := dk_180 0 21 (dk_at dksX0_bar_4 14 rfl rfl)
theorem dX0_bar_108 : decode cX0_bar 108 = .ok (.getfield 350, 3) := dk_180 1 94 (dk_at dksX0_bar_4 17 rfl rfl)
theorem dX0_bar_111 : decode cX0_bar 111 = .ok (.aload_n 0, 1) := dk_42 (dk_at dksX0_bar_4 20 rfl rfl)
theorem dX0_bar_112 : decode cX0_bar 112 = .ok (.getfield 21, 3) := dk_180 0 21 (dk_at dksX0_bar_4 21 rfl rfl)
theorem dX0_bar_115 : decode cX0_bar 115 = .ok (.getfield 79, 3) := dk_180 0 79 (dk_at dksX0_bar_5 0 rfl rfl)
theorem dX0_bar_118 : decode cX0_bar 118 = .ok (.bipush 6, 2) := dk_16 6 (dk_at dksX0_bar_5 3 rfl rfl)
theorem dX0_bar_120 : decode cX0_bar 120 = .ok (.iaload, 1) := dk_46 (dk_at dksX0_bar_5 5 rfl rfl)
theorem dX0_bar_121 : decode cX0_bar 121 = .ok (.aaload, 1) := dk_50 (dk_at dksX0_bar_5 6 rfl rfl)
theorem dX0_bar_122 : decode cX0_bar 122 = .ok (.invokestatic 89, 3) := dk_184 0 89 (dk_at dksX0_bar_5 7 rfl rfl)
theorem dX0_bar_125 : decode cX0_bar 125 = .ok (.aload_n 0, 1) := dk_42 (dk_at dksX0_bar_5 10 rfl rfl)
theorem dX0_bar_126 : decode cX0_bar 126 = .ok (.getfield 21, 3) := dk_180 0 21 (dk_at dksX0_bar_5 11 rfl rfl)
theorem dX0_bar_129 : decode cX0_bar 129 = .ok (.getfield 79, 3) := dk_180 0 79 (dk_at dksX0_bar_5 14 rfl rfl)
theorem dX0_bar_132 : decode cX0_bar 132 = .ok (.bipush 6, 2) := dk_16 6 (dk_at dksX0_bar_5 17 rfl rfl)
theorem dX0_bar_134 : decode cX0_bar 134 = .ok (.dup2, 1) := dk_92 (dk_at dksX0_bar_5 19 rfl rfl)
theorem dX0_bar_135 : decode cX0_bar 135 = .ok (.iaload, 1) := dk_46 (dk_at dksX0_bar_5 20 rfl rfl)
theorem dX0_bar_136 : decode cX0_bar 136 = .ok (.iconst 1, 1) := dk_4 (dk_at dksX0_bar_5 21 rfl rfl)
theorem dX0_bar_137 : decode cX0_bar 137 = .ok (.iadd, 1) := dk_96 (dk_at dksX0_bar_5 22 rfl rfl)
theorem dX0_bar_138 : decode cX0_bar 138 = .ok (.iastore, 1) := dk_79 (dk_at dksX0_bar_5 23 rfl rfl)
theorem dX0_bar_139 : decode cX0_bar 139 = .ok (.aload_n 0, 1) := dk_42 (dk_at dksX0_bar_6 0 rfl rfl)
theorem dX0_bar_140 : decode cX0_bar 140 = .ok (.getfield 21, 3) := dk_180 0 21 (dk_at dksX0_bar_6 1 rfl rfl)
theorem dX0_bar_143 : decode cX0_bar 143 = .ok (.getfield 79, 3) := dk_180 0 79 (dk_at dksX0_bar_6 4 rfl rfl)
theorem dX0_bar_146 : decode cX0_bar 146 = .ok (.bipush 6, 2) := dk_16 6 (dk_at dksX0_bar_6 7 rfl rfl)
theorem dX0_bar_148 : decode cX0_bar 148 = .ok (.iaload, 1) := dk_46 (dk_at dksX0_bar_6 9 rfl rfl)
theorem dX0_bar_149 : decode cX0_bar 149 = .ok (.ireturn, 1) := dk_172 (dk_at dksX0_bar_6 10 rfl rfl)
abbrev cX0_barred : ByteArray := prog_1_method_68_code
def yX0_barred : MethodName := ⟨RX0, "barred", "(IZ)I"⟩
def dkwX0_barred_3 : List UInt8 := [153, 0, 5, 29, 172, 132, 3, 1, 167, 255, 207, 2, 172]
abbrev dktX0_barred_3 : List UInt8 := dkwX0_barred_3 ++ []
def dkwX0_barred_2 : List UInt8 := [42, 182, 0, 154, 182, 0, 207, 167, 0, 4, 3, 182, 0, 203, 42, 42, 180, 0, 43, 182, 1, 97]
abbrev dktX0_barred_2 : List UInt8 := dkwX0_barred_2 ++ dktX0_barred_3
def dkwX0_barred_1 : List UInt8 := [184, 0, 89, 4, 62, 29, 27, 163, 0, 50, 42, 42, 180, 0, 43, 28, 153, 0, 18, 42, 42, 180, 0, 43]
abbrev dktX0_barred_1 : List UInt8 := dkwX0_barred_1 ++ dktX0_barred_2
def dkwX0_barred_0 : List UInt8 := [27, 4, 17, 0, 200, 184, 0, 82, 154, 0, 5, 2, 172, 42, 180, 0, 21, 180, 0, 176, 42, 180, 0, 43]
abbrev dktX0_barred_0 : List UInt8 := dkwX0_barred_0 ++ dktX0_barred_1
theorem dksX0_barred_0 : cX0_barred.data.toList.drop 0 = dktX0_barred_0 := by decide +kernel
theorem dksX0_barred_1 : cX0_barred.data.toList.drop 24 = dktX0_barred_1 := dk_seg dksX0_barred_0 24 rfl rfl
theorem dksX0_barred_2 : cX0_barred.data.toList.drop 48 = dktX0_barred_2 := dk_seg dksX0_barred_1 24 rfl rfl
theorem dksX0_barred_3 : cX0_barred.data.toList.drop 70 = dktX0_barred_3 := dk_seg dksX0_barred_2 22 rfl rfl
theorem dX0_barred_0 : decode cX0_barred 0 = .ok (.iload_n 1, 1) := dk_27 (dk_at dksX0_barred_0 0 rfl rfl)
theorem dX0_barred_1 : decode cX0_barred 1 = .ok (.iconst 1, 1) := dk_4 (dk_at dksX0_barred_0 1 rfl rfl)
theorem dX0_barred_2 : decode cX0_barred 2 = .ok (.sipush 200, 3) := dk_17 0 200 (dk_at dksX0_barred_0 2 rfl rfl)
theorem dX0_barred_5 : decode cX0_barred 5 = .ok (.invokestatic 82, 3) := dk_184 0 82 (dk_at dksX0_barred_0 5 rfl rfl)
theorem dX0_barred_8 : decode cX0_barred 8 = .ok (.ifCond .ne 5, 3) := dk_154 0 5 (dk_at dksX0_barred_0 8 rfl rfl)
theorem dX0_barred_11 : decode cX0_barred 11 = .ok (.iconst (-1), 1) := dk_2 (dk_at dksX0_barred_0 11 rfl rfl)
theorem dX0_barred_12 : decode cX0_barred 12 = .ok (.ireturn, 1) := dk_172 (dk_at dksX0_barred_0 12 rfl rfl)
theorem dX0_barred_13 : decode cX0_barred 13 = .ok (.aload_n 0, 1) := dk_42 (dk_at dksX0_barred_0 13 rfl rfl)
theorem dX0_barred_14 : decode cX0_barred 14 = .ok (.getfield 21, 3) := dk_180 0 21 (dk_at dksX0_barred_0 14 rfl rfl)
theorem dX0_barred_17 : decode cX0_barred 17 = .ok (.getfield 176, 3) := dk_180 0 176 (dk_at dksX0_barred_0 17 rfl rfl)
theorem dX0_barred_20 : decode cX0_barred 20 = .ok (.aload_n 0, 1) := dk_42 (dk_at dksX0_barred_0 20 rfl rfl)
theorem dX0_barred_21 : decode cX0_barred 21 = .ok (.getfield 43, 3) := dk_180 0 43 (dk_at dksX0_barred_0 21 rfl rfl)
theorem dX0_barred_24 : decode cX0_barred 24 = .ok (.invokestatic 89, 3) := dk_184 0 89 (dk_at dksX0_barred_1 0 rfl rfl)
theorem dX0_barred_27 : decode cX0_barred 27 = .ok (.iconst 1, 1) := dk_4 (dk_at dksX0_barred_1 3 rfl rfl)
theorem dX0_barred_28 : decode cX0_barred 28 = .ok (.istore_n 3, 1) := dk_62 (dk_at dksX0_barred_1 4 rfl rfl)
theorem dX0_barred_29 : decode cX0_barred 29 = .ok (.iload_n 3, 1) := dk_29 (dk_at dksX0_barred_1 5 rfl rfl)
theorem dX0_barred_30 : decode cX0_barred 30 = .ok (.iload_n 1, 1) := dk_27 (dk_at dksX0_barred_1 6 rfl rfl)
theorem dX0_barred_31 : decode cX0_barred 31 = .ok (.if_icmp .gt 50, 3) := dk_163 0 50 (dk_at dksX0_barred_1 7 rfl rfl)
theorem dX0_barred_34 : decode cX0_barred 34 = .ok (.aload_n 0, 1) := dk_42 (dk_at dksX0_barred_1 10 rfl rfl)
theorem dX0_barred_35 : decode cX0_barred 35 = .ok (.aload_n 0, 1) := dk_42 (dk_at dksX0_barred_1 11 rfl rfl)
theorem dX0_barred_36 : decode cX0_barred 36 = .ok (.getfield 43, 3) := dk_180 0 43 (dk_at dksX0_barred_1 12 rfl rfl)
theorem dX0_barred_39 : decode cX0_barred 39 = .ok (.iload_n 2, 1) := dk_28 (dk_at dksX0_barred_1 15 rfl rfl)
theorem dX0_barred_40 : decode cX0_barred 40 = .ok (.ifCond .eq 18, 3) := dk_153 0 18 (dk_at dksX0_barred_1 16 rfl rfl)
theorem dX0_barred_43 : decode cX0_barred 43 = .ok (.aload_n 0, 1) := dk_42 (dk_at dksX0_barred_1 19 rfl rfl)
theorem dX0_barred_44 : decode cX0_barred 44 = .ok (.aload_n 0, 1) := dk_42 (dk_at dksX0_barred_1 20 rfl rfl)
theorem dX0_barred_45 : decode cX0_barred 45 = .ok (.getfield 43, 3) := dk_180 0 43 (dk_at dksX0_barred_1 21 rfl rfl)
theorem dX0_barred_48 : decode cX0_barred 48 = .ok (.aload_n 0, 1) := dk_42 (dk_at dksX0_barred_2 0 rfl rfl)
theorem dX0_barred_49 : decode cX0_barred 49 = .ok (.invokevirtual 154, 3) := dk_182 0 154 (dk_at dksX0_barred_2 1 rfl rfl)
theorem dX0_barred_52 : decode cX0_barred 52 = .ok (.invokevirtual 207, 3) := dk_182 0 207 (dk_at dksX0_barred_2 4 rfl rfl)
theorem dX0_barred_55 : decode cX0_barred 55 = .ok (.goto 4, 3) := dk_167 0 4 (dk_at dksX0_barred_2 7 rfl rfl)
theorem dX0_barred_58 : decode cX0_barred 58 = .ok (.iconst 0, 1) := dk_3 (dk_at dksX0_barred_2 10 rfl rfl)
theorem dX0_barred_59 : decode cX0_barred 59 = .ok (.invokevirtual 203, 3) := dk_182 0 203 (dk_at dksX0_barred_2 11 rfl rfl)
theorem dX0_barred_62 : decode cX0_barred 62 = .ok (.aload_n 0, 1) := dk_42 (dk_at dksX0_barred_2 14 rfl rfl)
theorem dX0_barred_63 : decode cX0_barred 63 = .ok (.aload_n 0, 1) := dk_42 (dk_at dksX0_barred_2 15 rfl rfl)
theorem dX0_barred_64 : decode cX0_barred 64 = .ok (.getfield 43, 3) := dk_180 0 43 (dk_at dksX0_barred_2 16 rfl rfl)
theorem dX0_barred_67 : decode cX0_barred 67 = .ok (.invokevirtual 353, 3) := dk_182 1 97 (dk_at dksX0_barred_2 19 rfl rfl)
theorem dX0_barred_70 : decode cX0_barred 70 = .ok (.ifCond .eq 5, 3) := dk_153 0 5 (dk_at dksX0_barred_3 0 rfl rfl)
theorem dX0_barred_73 : decode cX0_barred 73 = .ok (.iload_n 3, 1) := dk_29 (dk_at dksX0_barred_3 3 rfl rfl)
theorem dX0_barred_74 : decode cX0_barred 74 = .ok (.ireturn, 1) := dk_172 (dk_at dksX0_barred_3 4 rfl rfl)
theorem dX0_barred_75 : decode cX0_barred 75 = .ok (.iinc 3 1, 3) := dk_132 3 1 (dk_at dksX0_barred_3 5 rfl rfl)
theorem dX0_barred_78 : decode cX0_barred 78 = .ok (.goto (-49), 3) := dk_167 255 207 (dk_at dksX0_barred_3 8 rfl rfl)
theorem dX0_barred_81 : decode cX0_barred 81 = .ok (.iconst (-1), 1) := dk_2 (dk_at dksX0_barred_3 11 rfl rfl)
theorem dX0_barred_82 : decode cX0_barred 82 = .ok (.ireturn, 1) := dk_172 (dk_at dksX0_barred_3 12 rfl rfl)
abbrev cX0_isBarred : ByteArray := prog_1_method_67_code
def yX0_isBarred : MethodName := ⟨RX0, "isBarred", "([I)Z"⟩
def dkwX0_isBarred_2 : List UInt8 := [45, 6, 46, 184, 0, 82, 153, 0, 5, 4, 172, 132, 2, 1, 167, 255, 196, 3, 172]
abbrev dktX0_isBarred_2 : List UInt8 := dkwX0_isBarred_2 ++ []
def dkwX0_isBarred_1 : List UInt8 := [50, 78, 43, 3, 46, 45, 3, 46, 45, 4, 46, 184, 0, 82, 153, 0, 21, 43, 16, 8, 46, 45, 5, 46]
abbrev dktX0_isBarred_1 : List UInt8 := dkwX0_isBarred_1 ++ dktX0_isBarred_2
def dkwX0_isBarred_0 : List UInt8 := [3, 61, 28, 42, 180, 0, 21, 180, 0, 79, 16, 6, 46, 162, 0, 52, 42, 180, 0, 21, 180, 1, 94, 28]
abbrev dktX0_isBarred_0 : List UInt8 := dkwX0_isBarred_0 ++ dktX0_isBarred_1
theorem dksX0_isBarred_0 : cX0_isBarred.data.toList.drop 0 = dktX0_isBarred_0 := by decide +kernel
theorem dksX0_isBarred_1 : cX0_isBarred.data.toList.drop 24 = dktX0_isBarred_1 := dk_seg dksX0_isBarred_0 24 rfl rfl
theorem dksX0_isBarred_2 : cX0_isBarred.data.toList.drop 48 = dktX0_isBarred_2 := dk_seg dksX0_isBarred_1 24 rfl rfl
theorem dX0_isBarred_0 : decode cX0_isBarred 0 = .ok (.iconst 0, 1) := dk_3 (dk_at dksX0_isBarred_0 0 rfl rfl)
theorem dX0_isBarred_1 : decode cX0_isBarred 1 = .ok (.istore_n 2, 1) := dk_61 (dk_at dksX0_isBarred_0 1 rfl rfl)
theorem dX0_isBarred_2 : decode cX0_isBarred 2 = .ok (.iload_n 2, 1) := dk_28 (dk_at dksX0_isBarred_0 2 rfl rfl)
theorem dX0_isBarred_3 : decode cX0_isBarred 3 = .ok (.aload_n 0, 1) := dk_42 (dk_at dksX0_isBarred_0 3 rfl rfl)
theorem dX0_isBarred_4 : decode cX0_isBarred 4 = .ok (.getfield 21, 3) := dk_180 0 21 (dk_at dksX0_isBarred_0 4 rfl rfl)
theorem dX0_isBarred_7 : decode cX0_isBarred 7 = .ok (.getfield 79, 3) := dk_180 0 79 (dk_at dksX0_isBarred_0 7 rfl rfl)
theorem dX0_isBarred_10 : decode cX0_isBarred 10 = .ok (.bipush 6, 2) := dk_16 6 (dk_at dksX0_isBarred_0 10 rfl rfl)
theorem dX0_isBarred_12 : decode cX0_isBarred 12 = .ok (.iaload, 1) := dk_46 (dk_at dksX0_isBarred_0 12 rfl rfl)
theorem dX0_isBarred_13 : decode cX0_isBarred 13 = .ok (.if_icmp .ge 52, 3) := dk_162 0 52 (dk_at dksX0_isBarred_0 13 rfl rfl)
theorem dX0_isBarred_16 : decode cX0_isBarred 16 = .ok (.aload_n 0, 1) := dk_42 (dk_at dksX0_isBarred_0 16 rfl rfl)
theorem dX0_isBarred_17 : decode cX0_isBarred 17 = .ok (.getfield 21, 3) := dk_180 0 21 (dk_at dksX0_isBarred_0 17 rfl rfl)
theorem dX0_isBarred_20 : decode cX0_isBarred 20 = .ok (.getfield 350, 3) := dk_180 1 94 (dk_at dksX0_isBarred_0 20 rfl rfl)
theorem dX0_isBarred_23 : decode cX0_isBarred 23 = .ok (.iload_n 2, 1) := dk_28 (dk_at dksX0_isBarred_0 23 rfl rfl)
theorem dX0_isBarred_24 : decode cX0_isBarred 24 = .ok (.aaload, 1) := dk_50 (dk_at dksX0_isBarred_1 0 rfl rfl)
theorem dX0_isBarred_25 : decode cX0_isBarred 25 = .ok (.astore_n 3, 1) := dk_78 (dk_at dksX0_isBarred_1 1 rfl rfl)
theorem dX0_isBarred_26 : decode cX0_isBarred 26 = .ok (.aload_n 1, 1) := dk_43 (dk_at dksX0_isBarred_1 2 rfl rfl)
theorem dX0_isBarred_27 : decode cX0_isBarred 27 = .ok (.iconst 0, 1) := dk_3 (dk_at dksX0_isBarred_1 3 rfl rfl)
theorem dX0_isBarred_28 : decode cX0_isBarred 28 = .ok (.iaload, 1) := dk_46 (dk_at dksX0_isBarred_1 4 rfl rfl)
theorem dX0_isBarred_29 : decode cX0_isBarred 29 = .ok (.aload_n 3, 1) := dk_45 (dk_at dksX0_isBarred_1 5 rfl rfl)
theorem dX0_isBarred_30 : decode cX0_isBarred 30 = .ok (.iconst 0, 1) := dk_3 (dk_at dksX0_isBarred_1 6 rfl rfl)
theorem dX0_isBarred_31 : decode cX0_isBarred 31 = .ok (.iaload, 1) := dk_46 (dk_at dksX0_isBarred_1 7 rfl rfl)
theorem dX0_isBarred_32 : decode cX0_isBarred 32 = .ok (.aload_n 3, 1) := dk_45 (dk_at dksX0_isBarred_1 8 rfl rfl)
theorem dX0_isBarred_33 : decode cX0_isBarred 33 = .ok (.iconst 1, 1) := dk_4 (dk_at dksX0_isBarred_1 9 rfl rfl)
theorem dX0_isBarred_34 : decode cX0_isBarred 34 = .ok (.iaload, 1) := dk_46 (dk_at dksX0_isBarred_1 10 rfl rfl)
theorem dX0_isBarred_35 : decode cX0_isBarred 35 = .ok (.invokestatic 82, 3) := dk_184 0 82 (dk_at dksX0_isBarred_1 11 rfl rfl)
theorem dX0_isBarred_38 : decode cX0_isBarred 38 = .ok (.ifCond .eq 21, 3) := dk_153 0 21 (dk_at dksX0_isBarred_1 14 rfl rfl)
theorem dX0_isBarred_41 : decode cX0_isBarred 41 = .ok (.aload_n 1, 1) := dk_43 (dk_at dksX0_isBarred_1 17 rfl rfl)
theorem dX0_isBarred_42 : decode cX0_isBarred 42 = .ok (.bipush 8, 2) := dk_16 8 (dk_at dksX0_isBarred_1 18 rfl rfl)
theorem dX0_isBarred_44 : decode cX0_isBarred 44 = .ok (.iaload, 1) := dk_46 (dk_at dksX0_isBarred_1 20 rfl rfl)
theorem dX0_isBarred_45 : decode cX0_isBarred 45 = .ok (.aload_n 3, 1) := dk_45 (dk_at dksX0_isBarred_1 21 rfl rfl)
theorem dX0_isBarred_46 : decode cX0_isBarred 46 = .ok (.iconst 2, 1) := dk_5 (dk_at dksX0_isBarred_1 22 rfl rfl)
theorem dX0_isBarred_47 : decode cX0_isBarred 47 = .ok (.iaload, 1) := dk_46 (dk_at dksX0_isBarred_1 23 rfl rfl)
theorem dX0_isBarred_48 : decode cX0_isBarred 48 = .ok (.aload_n 3, 1) := dk_45 (dk_at dksX0_isBarred_2 0 rfl rfl)
theorem dX0_isBarred_49 : decode cX0_isBarred 49 = .ok (.iconst 3, 1) := dk_6 (dk_at dksX0_isBarred_2 1 rfl rfl)
theorem dX0_isBarred_50 : decode cX0_isBarred 50 = .ok (.iaload, 1) := dk_46 (dk_at dksX0_isBarred_2 2 rfl rfl)
theorem dX0_isBarred_51 : decode cX0_isBarred 51 = .ok (.invokestatic 82, 3) := dk_184 0 82 (dk_at dksX0_isBarred_2 3 rfl rfl)
theorem dX0_isBarred_54 : decode cX0_isBarred 54 = .ok (.ifCond .eq 5, 3) := dk_153 0 5 (dk_at dksX0_isBarred_2 6 rfl rfl)
theorem dX0_isBarred_57 : decode cX0_isBarred 57 = .ok (.iconst 1, 1) := dk_4 (dk_at dksX0_isBarred_2 9 rfl rfl)
theorem dX0_isBarred_58 : decode cX0_isBarred 58 = .ok (.ireturn, 1) := dk_172 (dk_at dksX0_isBarred_2 10 rfl rfl)
theorem dX0_isBarred_59 : decode cX0_isBarred 59 = .ok (.iinc 2 1, 3) := dk_132 2 1 (dk_at dksX0_isBarred_2 11 rfl rfl)
theorem dX0_isBarred_62 : decode cX0_isBarred 62 = .ok (.goto (-60), 3) := dk_167 255 196 (dk_at dksX0_isBarred_2 14 rfl rfl)
theorem dX0_isBarred_65 : decode cX0_isBarred 65 = .ok (.iconst 0, 1) := dk_3 (dk_at dksX0_isBarred_2 17 rfl rfl)
theorem dX0_isBarred_66 : decode cX0_isBarred 66 = .ok (.ireturn, 1) := dk_172 (dk_at dksX0_isBarred_2 18 rfl rfl)
abbrev cX0_howFar : ByteArray := prog_1_method_69_code
def yX0_howFar : MethodName := ⟨RX0, "howFar", "(I)I"⟩
def dkwX0_howFar_1 : List UInt8 := [182, 1, 44, 27, 161, 0, 9, 132, 2, 1, 167, 255, 236, 28, 172]
abbrev dktX0_howFar_1 : List UInt8 := dkwX0_howFar_1 ++ []
def dkwX0_howFar_0 : List UInt8 := [27, 4, 16, 99, 184, 0, 82, 154, 0, 5, 2, 172, 2, 61, 28, 16, 60, 162, 0, 20, 42, 28, 4, 96]
abbrev dktX0_howFar_0 : List UInt8 := dkwX0_howFar_0 ++ dktX0_howFar_1
theorem dksX0_howFar_0 : cX0_howFar.data.toList.drop 0 = dktX0_howFar_0 := by decide +kernel
theorem dksX0_howFar_1 : cX0_howFar.data.toList.drop 24 = dktX0_howFar_1 := dk_seg dksX0_howFar_0 24 rfl rfl
theorem dX0_howFar_0 : decode cX0_howFar 0 = .ok (.iload_n 1, 1) := dk_27 (dk_at dksX0_howFar_0 0 rfl rfl)
theorem dX0_howFar_1 : decode cX0_howFar 1 = .ok (.iconst 1, 1) := dk_4 (dk_at dksX0_howFar_0 1 rfl rfl)
theorem dX0_howFar_2 : decode cX0_howFar 2 = .ok (.bipush 99, 2) := dk_16 99 (dk_at dksX0_howFar_0 2 rfl rfl)
theorem dX0_howFar_4 : decode cX0_howFar 4 = .ok (.invokestatic 82, 3) := dk_184 0 82 (dk_at dksX0_howFar_0 4 rfl rfl)
theorem dX0_howFar_7 : decode cX0_howFar 7 = .ok (.ifCond .ne 5, 3) := dk_154 0 5 (dk_at dksX0_howFar_0 7 rfl rfl)
theorem dX0_howFar_10 : decode cX0_howFar 10 = .ok (.iconst (-1), 1) := dk_2 (dk_at dksX0_howFar_0 10 rfl rfl)
theorem dX0_howFar_11 : decode cX0_howFar 11 = .ok (.ireturn, 1) := dk_172 (dk_at dksX0_howFar_0 11 rfl rfl)
theorem dX0_howFar_12 : decode cX0_howFar 12 = .ok (.iconst (-1), 1) := dk_2 (dk_at dksX0_howFar_0 12 rfl rfl)
theorem dX0_howFar_13 : decode cX0_howFar 13 = .ok (.istore_n 2, 1) := dk_61 (dk_at dksX0_howFar_0 13 rfl rfl)
theorem dX0_howFar_14 : decode cX0_howFar 14 = .ok (.iload_n 2, 1) := dk_28 (dk_at dksX0_howFar_0 14 rfl rfl)
theorem dX0_howFar_15 : decode cX0_howFar 15 = .ok (.bipush 60, 2) := dk_16 60 (dk_at dksX0_howFar_0 15 rfl rfl)
theorem dX0_howFar_17 : decode cX0_howFar 17 = .ok (.if_icmp .ge 20, 3) := dk_162 0 20 (dk_at dksX0_howFar_0 17 rfl rfl)
theorem dX0_howFar_20 : decode cX0_howFar 20 = .ok (.aload_n 0, 1) := dk_42 (dk_at dksX0_howFar_0 20 rfl rfl)
theorem dX0_howFar_21 : decode cX0_howFar 21 = .ok (.iload_n 2, 1) := dk_28 (dk_at dksX0_howFar_0 21 rfl rfl)
theorem dX0_howFar_22 : decode cX0_howFar 22 = .ok (.iconst 1, 1) := dk_4 (dk_at dksX0_howFar_0 22 rfl rfl)
theorem dX0_howFar_23 : decode cX0_howFar 23 = .ok (.iadd, 1) := dk_96 (dk_at dksX0_howFar_0 23 rfl rfl)
theorem dX0_howFar_24 : decode cX0_howFar 24 = .ok (.invokevirtual 300, 3) := dk_182 1 44 (dk_at dksX0_howFar_1 0 rfl rfl)
theorem dX0_howFar_27 : decode cX0_howFar 27 = .ok (.iload_n 1, 1) := dk_27 (dk_at dksX0_howFar_1 3 rfl rfl)
theorem dX0_howFar_28 : decode cX0_howFar 28 = .ok (.if_icmp .lt 9, 3) := dk_161 0 9 (dk_at dksX0_howFar_1 4 rfl rfl)
theorem dX0_howFar_31 : decode cX0_howFar 31 = .ok (.iinc 2 1, 3) := dk_132 2 1 (dk_at dksX0_howFar_1 7 rfl rfl)
theorem dX0_howFar_34 : decode cX0_howFar 34 = .ok (.goto (-20), 3) := dk_167 255 236 (dk_at dksX0_howFar_1 10 rfl rfl)
theorem dX0_howFar_37 : decode cX0_howFar 37 = .ok (.iload_n 2, 1) := dk_28 (dk_at dksX0_howFar_1 13 rfl rfl)
theorem dX0_howFar_38 : decode cX0_howFar 38 = .ok (.ireturn, 1) := dk_172 (dk_at dksX0_howFar_1 14 rfl rfl)
abbrev cX0_over : ByteArray := prog_1_method_70_code
def yX0_over : MethodName := ⟨RX0, "over", "()I"⟩
def dkwX0_over_2 : List UInt8 := [164, 0, 9, 4, 28, 120, 167, 0, 4, 3, 128, 60, 132, 2, 1, 167, 255, 201, 27, 172]
abbrev dktX0_over_2 : List UInt8 := dkwX0_over_2 ++ []
def dkwX0_over_1 : List UInt8 := [180, 0, 86, 28, 50, 3, 46, 42, 42, 180, 0, 21, 180, 0, 86, 28, 50, 4, 46, 182, 1, 44]
abbrev dktX0_over_1 : List UInt8 := dkwX0_over_1 ++ dktX0_over_2
def dkwX0_over_0 : List UInt8 := [3, 60, 3, 61, 28, 42, 180, 0, 21, 180, 0, 79, 3, 46, 162, 0, 48, 27, 42, 180, 0, 21]
abbrev dktX0_over_0 : List UInt8 := dkwX0_over_0 ++ dktX0_over_1
theorem dksX0_over_0 : cX0_over.data.toList.drop 0 = dktX0_over_0 := by decide +kernel
theorem dksX0_over_1 : cX0_over.data.toList.drop 22 = dktX0_over_1 := dk_seg dksX0_over_0 22 rfl rfl
theorem dksX0_over_2 : cX0_over.data.toList.drop 44 = dktX0_over_2 := dk_seg dksX0_over_1 22 rfl rfl
theorem dX0_over_0 : decode cX0_over 0 = .ok (.iconst 0, 1) := dk_3 (dk_at dksX0_over_0 0 rfl rfl)
theorem dX0_over_1 : decode cX0_over 1 = .ok (.istore_n 1, 1) := dk_60 (dk_at dksX0_over_0 1 rfl rfl)
theorem dX0_over_2 : decode cX0_over 2 = .ok (.iconst 0, 1) := dk_3 (dk_at dksX0_over_0 2 rfl rfl)
theorem dX0_over_3 : decode cX0_over 3 = .ok (.istore_n 2, 1) := dk_61 (dk_at dksX0_over_0 3 rfl rfl)
theorem dX0_over_4 : decode cX0_over 4 = .ok (.iload_n 2, 1) := dk_28 (dk_at dksX0_over_0 4 rfl rfl)
theorem dX0_over_5 : decode cX0_over 5 = .ok (.aload_n 0, 1) := dk_42 (dk_at dksX0_over_0 5 rfl rfl)
theorem dX0_over_6 : decode cX0_over 6 = .ok (.getfield 21, 3) := dk_180 0 21 (dk_at dksX0_over_0 6 rfl rfl)
theorem dX0_over_9 : decode cX0_over 9 = .ok (.getfield 79, 3) := dk_180 0 79 (dk_at dksX0_over_0 9 rfl rfl)
theorem dX0_over_12 : decode cX0_over 12 = .ok (.iconst 0, 1) := dk_3 (dk_at dksX0_over_0 12 rfl rfl)
theorem dX0_over_13 : decode cX0_over 13 = .ok (.iaload, 1) := dk_46 (dk_at dksX0_over_0 13 rfl rfl)
theorem dX0_over_14 : decode cX0_over 14 = .ok (.if_icmp .ge 48, 3) := dk_162 0 48 (dk_at dksX0_over_0 14 rfl rfl)
theorem dX0_over_17 : decode cX0_over 17 = .ok (.iload_n 1, 1) := dk_27 (dk_at dksX0_over_0 17 rfl rfl)
theorem dX0_over_18 : decode cX0_over 18 = .ok (.aload_n 0, 1) := dk_42 (dk_at dksX0_over_0 18 rfl rfl)
theorem dX0_over_19 : decode cX0_over 19 = .ok (.getfield 21, 3) := dk_180 0 21 (dk_at dksX0_over_0 19 rfl rfl)
theorem dX0_over_22 : decode cX0_over 22 = .ok (.getfield 86, 3) := dk_180 0 86 (dk_at dksX0_over_1 0 rfl rfl)
theorem dX0_over_25 : decode cX0_over 25 = .ok (.iload_n 2, 1) := dk_28 (dk_at dksX0_over_1 3 rfl rfl)
theorem dX0_over_26 : decode cX0_over 26 = .ok (.aaload, 1) := dk_50 (dk_at dksX0_over_1 4 rfl rfl)
theorem dX0_over_27 : decode cX0_over 27 = .ok (.iconst 0, 1) := dk_3 (dk_at dksX0_over_1 5 rfl rfl)
theorem dX0_over_28 : decode cX0_over 28 = .ok (.iaload, 1) := dk_46 (dk_at dksX0_over_1 6 rfl rfl)
theorem dX0_over_29 : decode cX0_over 29 = .ok (.aload_n 0, 1) := dk_42 (dk_at dksX0_over_1 7 rfl rfl)
theorem dX0_over_30 : decode cX0_over 30 = .ok (.aload_n 0, 1) := dk_42 (dk_at dksX0_over_1 8 rfl rfl)
theorem dX0_over_31 : decode cX0_over 31 = .ok (.getfield 21, 3) := dk_180 0 21 (dk_at dksX0_over_1 9 rfl rfl)
theorem dX0_over_34 : decode cX0_over 34 = .ok (.getfield 86, 3) := dk_180 0 86 (dk_at dksX0_over_1 12 rfl rfl)
theorem dX0_over_37 : decode cX0_over 37 = .ok (.iload_n 2, 1) := dk_28 (dk_at dksX0_over_1 15 rfl rfl)
theorem dX0_over_38 : decode cX0_over 38 = .ok (.aaload, 1) := dk_50 (dk_at dksX0_over_1 16 rfl rfl)
theorem dX0_over_39 : decode cX0_over 39 = .ok (.iconst 1, 1) := dk_4 (dk_at dksX0_over_1 17 rfl rfl)
theorem dX0_over_40 : decode cX0_over 40 = .ok (.iaload, 1) := dk_46 (dk_at dksX0_over_1 18 rfl rfl)
theorem dX0_over_41 : decode cX0_over 41 = .ok (.invokevirtual 300, 3) := dk_182 1 44 (dk_at dksX0_over_1 19 rfl rfl)
theorem dX0_over_44 : decode cX0_over 44 = .ok (.if_icmp .le 9, 3) := dk_164 0 9 (dk_at dksX0_over_2 0 rfl rfl)
theorem dX0_over_47 : decode cX0_over 47 = .ok (.iconst 1, 1) := dk_4 (dk_at dksX0_over_2 3 rfl rfl)
theorem dX0_over_48 : decode cX0_over 48 = .ok (.iload_n 2, 1) := dk_28 (dk_at dksX0_over_2 4 rfl rfl)
theorem dX0_over_49 : decode cX0_over 49 = .ok (.ishl, 1) := dk_120 (dk_at dksX0_over_2 5 rfl rfl)
theorem dX0_over_50 : decode cX0_over 50 = .ok (.goto 4, 3) := dk_167 0 4 (dk_at dksX0_over_2 6 rfl rfl)
theorem dX0_over_53 : decode cX0_over 53 = .ok (.iconst 0, 1) := dk_3 (dk_at dksX0_over_2 9 rfl rfl)
theorem dX0_over_54 : decode cX0_over 54 = .ok (.ior, 1) := dk_128 (dk_at dksX0_over_2 10 rfl rfl)
theorem dX0_over_55 : decode cX0_over 55 = .ok (.istore_n 1, 1) := dk_60 (dk_at dksX0_over_2 11 rfl rfl)
theorem dX0_over_56 : decode cX0_over 56 = .ok (.iinc 2 1, 3) := dk_132 2 1 (dk_at dksX0_over_2 12 rfl rfl)
theorem dX0_over_59 : decode cX0_over 59 = .ok (.goto (-55), 3) := dk_167 255 201 (dk_at dksX0_over_2 15 rfl rfl)
theorem dX0_over_62 : decode cX0_over 62 = .ok (.iload_n 1, 1) := dk_27 (dk_at dksX0_over_2 18 rfl rfl)
theorem dX0_over_63 : decode cX0_over 63 = .ok (.ireturn, 1) := dk_172 (dk_at dksX0_over_2 19 rfl rfl)
abbrev cX0_first : ByteArray := prog_1_method_73_code
def yX0_first : MethodName := ⟨RX0, "first", "(II)I"⟩
def dkwX0_first_2 : List UInt8 := [180, 1, 108, 167, 0, 9, 42, 180, 0, 66, 28, 46, 172]
abbrev dktX0_first_2 : List UInt8 := dkwX0_first_2 ++ []
def dkwX0_first_1 : List UInt8 := [2, 172, 42, 3, 3, 3, 3, 182, 1, 111, 42, 180, 1, 108, 2, 159, 0, 8, 28, 2, 160, 0, 10, 42]
abbrev dktX0_first_1 : List UInt8 := dkwX0_first_1 ++ dktX0_first_2
def dkwX0_first_0 : List UInt8 := [42, 27, 16, 7, 182, 1, 115, 153, 0, 17, 28, 2, 42, 180, 1, 105, 4, 100, 184, 0, 82, 154, 0, 5]
abbrev dktX0_first_0 : List UInt8 := dkwX0_first_0 ++ dktX0_first_1
theorem dksX0_first_0 : cX0_first.data.toList.drop 0 = dktX0_first_0 := by decide +kernel
theorem dksX0_first_1 : cX0_first.data.toList.drop 24 = dktX0_first_1 := dk_seg dksX0_first_0 24 rfl rfl
theorem dksX0_first_2 : cX0_first.data.toList.drop 48 = dktX0_first_2 := dk_seg dksX0_first_1 24 rfl rfl
theorem dX0_first_0 : decode cX0_first 0 = .ok (.aload_n 0, 1) := dk_42 (dk_at dksX0_first_0 0 rfl rfl)
theorem dX0_first_1 : decode cX0_first 1 = .ok (.iload_n 1, 1) := dk_27 (dk_at dksX0_first_0 1 rfl rfl)
theorem dX0_first_2 : decode cX0_first 2 = .ok (.bipush 7, 2) := dk_16 7 (dk_at dksX0_first_0 2 rfl rfl)
theorem dX0_first_4 : decode cX0_first 4 = .ok (.invokevirtual 371, 3) := dk_182 1 115 (dk_at dksX0_first_0 4 rfl rfl)
theorem dX0_first_7 : decode cX0_first 7 = .ok (.ifCond .eq 17, 3) := dk_153 0 17 (dk_at dksX0_first_0 7 rfl rfl)
theorem dX0_first_10 : decode cX0_first 10 = .ok (.iload_n 2, 1) := dk_28 (dk_at dksX0_first_0 10 rfl rfl)
theorem dX0_first_11 : decode cX0_first 11 = .ok (.iconst (-1), 1) := dk_2 (dk_at dksX0_first_0 11 rfl rfl)
theorem dX0_first_12 : decode cX0_first 12 = .ok (.aload_n 0, 1) := dk_42 (dk_at dksX0_first_0 12 rfl rfl)
theorem dX0_first_13 : decode cX0_first 13 = .ok (.getfield 361, 3) := dk_180 1 105 (dk_at dksX0_first_0 13 rfl rfl)
theorem dX0_first_16 : decode cX0_first 16 = .ok (.iconst 1, 1) := dk_4 (dk_at dksX0_first_0 16 rfl rfl)
theorem dX0_first_17 : decode cX0_first 17 = .ok (.isub, 1) := dk_100 (dk_at dksX0_first_0 17 rfl rfl)
theorem dX0_first_18 : decode cX0_first 18 = .ok (.invokestatic 82, 3) := dk_184 0 82 (dk_at dksX0_first_0 18 rfl rfl)
theorem dX0_first_21 : decode cX0_first 21 = .ok (.ifCond .ne 5, 3) := dk_154 0 5 (dk_at dksX0_first_0 21 rfl rfl)
theorem dX0_first_24 : decode cX0_first 24 = .ok (.iconst (-1), 1) := dk_2 (dk_at dksX0_first_1 0 rfl rfl)
theorem dX0_first_25 : decode cX0_first 25 = .ok (.ireturn, 1) := dk_172 (dk_at dksX0_first_1 1 rfl rfl)
theorem dX0_first_26 : decode cX0_first 26 = .ok (.aload_n 0, 1) := dk_42 (dk_at dksX0_first_1 2 rfl rfl)
theorem dX0_first_27 : decode cX0_first 27 = .ok (.iconst 0, 1) := dk_3 (dk_at dksX0_first_1 3 rfl rfl)
theorem dX0_first_28 : decode cX0_first 28 = .ok (.iconst 0, 1) := dk_3 (dk_at dksX0_first_1 4 rfl rfl)
theorem dX0_first_29 : decode cX0_first 29 = .ok (.iconst 0, 1) := dk_3 (dk_at dksX0_first_1 5 rfl rfl)
theorem dX0_first_30 : decode cX0_first 30 = .ok (.iconst 0, 1) := dk_3 (dk_at dksX0_first_1 6 rfl rfl)
theorem dX0_first_31 : decode cX0_first 31 = .ok (.invokevirtual 367, 3) := dk_182 1 111 (dk_at dksX0_first_1 7 rfl rfl)
theorem dX0_first_34 : decode cX0_first 34 = .ok (.aload_n 0, 1) := dk_42 (dk_at dksX0_first_1 10 rfl rfl)
theorem dX0_first_35 : decode cX0_first 35 = .ok (.getfield 364, 3) := dk_180 1 108 (dk_at dksX0_first_1 11 rfl rfl)
theorem dX0_first_38 : decode cX0_first 38 = .ok (.iconst (-1), 1) := dk_2 (dk_at dksX0_first_1 14 rfl rfl)
theorem dX0_first_39 : decode cX0_first 39 = .ok (.if_icmp .eq 8, 3) := dk_159 0 8 (dk_at dksX0_first_1 15 rfl rfl)
theorem dX0_first_42 : decode cX0_first 42 = .ok (.iload_n 2, 1) := dk_28 (dk_at dksX0_first_1 18 rfl rfl)
theorem dX0_first_43 : decode cX0_first 43 = .ok (.iconst (-1), 1) := dk_2 (dk_at dksX0_first_1 19 rfl rfl)
theorem dX0_first_44 : decode cX0_first 44 = .ok (.if_icmp .ne 10, 3) := dk_160 0 10 (dk_at dksX0_first_1 20 rfl rfl)
theorem dX0_first_47 : decode cX0_first 47 = .ok (.aload_n 0, 1) := dk_42 (dk_at dksX0_first_1 23 rfl rfl)
theorem dX0_first_48 : decode cX0_first 48 = .ok (.getfield 364, 3) := dk_180 1 108 (dk_at dksX0_first_2 0 rfl rfl)
theorem dX0_first_51 : decode cX0_first 51 = .ok (.goto 9, 3) := dk_167 0 9 (dk_at dksX0_first_2 3 rfl rfl)
theorem dX0_first_54 : decode cX0_first 54 = .ok (.aload_n 0, 1) := dk_42 (dk_at dksX0_first_2 6 rfl rfl)
theorem dX0_first_55 : decode cX0_first 55 = .ok (.getfield 66, 3) := dk_180 0 66 (dk_at dksX0_first_2 7 rfl rfl)
theorem dX0_first_58 : decode cX0_first 58 = .ok (.iload_n 2, 1) := dk_28 (dk_at dksX0_first_2 10 rfl rfl)
theorem dX0_first_59 : decode cX0_first 59 = .ok (.iaload, 1) := dk_46 (dk_at dksX0_first_2 11 rfl rfl)
theorem dX0_first_60 : decode cX0_first 60 = .ok (.ireturn, 1) := dk_172 (dk_at dksX0_first_2 12 rfl rfl)
abbrev cX0_lays : ByteArray := prog_1_method_71_code
def yX0_lays : MethodName := ⟨RX0, "lays", "(II)Z"⟩
def dkwX0_lays_4 : List UInt8 := [181, 1, 105, 132, 3, 1, 167, 255, 195, 42, 2, 181, 1, 108, 4, 172]
abbrev dktX0_lays_4 : List UInt8 := dkwX0_lays_4 ++ []
def dkwX0_lays_3 : List UInt8 := [29, 79, 42, 180, 0, 60, 42, 180, 1, 105, 42, 29, 182, 1, 41, 79, 42, 89, 180, 1, 105, 4, 96]
abbrev dktX0_lays_3 : List UInt8 := dkwX0_lays_3 ++ dktX0_lays_4
def dkwX0_lays_2 : List UInt8 := [3, 46, 162, 0, 54, 27, 29, 184, 0, 218, 154, 0, 6, 167, 0, 37, 42, 180, 0, 57, 42, 180, 1, 105]
abbrev dktX0_lays_2 : List UInt8 := dkwX0_lays_2 ++ dktX0_lays_3
def dkwX0_lays_1 : List UInt8 := [184, 1, 100, 28, 164, 0, 5, 3, 172, 42, 3, 181, 1, 105, 3, 62, 29, 42, 180, 0, 21, 180, 0, 79]
abbrev dktX0_lays_1 : List UInt8 := dkwX0_lays_1 ++ dktX0_lays_2
def dkwX0_lays_0 : List UInt8 := [27, 4, 4, 42, 180, 0, 21, 180, 0, 79, 3, 46, 120, 4, 100, 184, 0, 82, 153, 0, 11, 27]
abbrev dktX0_lays_0 : List UInt8 := dkwX0_lays_0 ++ dktX0_lays_1
theorem dksX0_lays_0 : cX0_lays.data.toList.drop 0 = dktX0_lays_0 := by decide +kernel
theorem dksX0_lays_1 : cX0_lays.data.toList.drop 22 = dktX0_lays_1 := dk_seg dksX0_lays_0 22 rfl rfl
theorem dksX0_lays_2 : cX0_lays.data.toList.drop 46 = dktX0_lays_2 := dk_seg dksX0_lays_1 24 rfl rfl
theorem dksX0_lays_3 : cX0_lays.data.toList.drop 70 = dktX0_lays_3 := dk_seg dksX0_lays_2 24 rfl rfl
theorem dksX0_lays_4 : cX0_lays.data.toList.drop 93 = dktX0_lays_4 := dk_seg dksX0_lays_3 23 rfl rfl
theorem dX0_lays_0 : decode cX0_lays 0 = .ok (.iload_n 1, 1) := dk_27 (dk_at dksX0_lays_0 0 rfl rfl)
theorem dX0_lays_1 : decode cX0_lays 1 = .ok (.iconst 1, 1) := dk_4 (dk_at dksX0_lays_0 1 rfl rfl)
theorem dX0_lays_2 : decode cX0_lays 2 = .ok (.iconst 1, 1) := dk_4 (dk_at dksX0_lays_0 2 rfl rfl)
theorem dX0_lays_3 : decode cX0_lays 3 = .ok (.aload_n 0, 1) := dk_42 (dk_at dksX0_lays_0 3 rfl rfl)
theorem dX0_lays_4 : decode cX0_lays 4 = .ok (.getfield 21, 3) := dk_180 0 21 (dk_at dksX0_lays_0 4 rfl rfl)
theorem dX0_lays_7 : decode cX0_lays 7 = .ok (.getfield 79, 3) := dk_180 0 79 (dk_at dksX0_lays_0 7 rfl rfl)
theorem dX0_lays_10 : decode cX0_lays 10 = .ok (.iconst 0, 1) := dk_3 (dk_at dksX0_lays_0 10 rfl rfl)
theorem dX0_lays_11 : decode cX0_lays 11 = .ok (.iaload, 1) := dk_46 (dk_at dksX0_lays_0 11 rfl rfl)
theorem dX0_lays_12 : decode cX0_lays 12 = .ok (.ishl, 1) := dk_120 (dk_at dksX0_lays_0 12 rfl rfl)
theorem dX0_lays_13 : decode cX0_lays 13 = .ok (.iconst 1, 1) := dk_4 (dk_at dksX0_lays_0 13 rfl rfl)
theorem dX0_lays_14 : decode cX0_lays 14 = .ok (.isub, 1) := dk_100 (dk_at dksX0_lays_0 14 rfl rfl)
theorem dX0_lays_15 : decode cX0_lays 15 = .ok (.invokestatic 82, 3) := dk_184 0 82 (dk_at dksX0_lays_0 15 rfl rfl)
theorem dX0_lays_18 : decode cX0_lays 18 = .ok (.ifCond .eq 11, 3) := dk_153 0 11 (dk_at dksX0_lays_0 18 rfl rfl)
theorem dX0_lays_21 : decode cX0_lays 21 = .ok (.iload_n 1, 1) := dk_27 (dk_at dksX0_lays_0 21 rfl rfl)
theorem dX0_lays_22 : decode cX0_lays 22 = .ok (.invokestatic 356, 3) := dk_184 1 100 (dk_at dksX0_lays_1 0 rfl rfl)
theorem dX0_lays_25 : decode cX0_lays 25 = .ok (.iload_n 2, 1) := dk_28 (dk_at dksX0_lays_1 3 rfl rfl)
theorem dX0_lays_26 : decode cX0_lays 26 = .ok (.if_icmp .le 5, 3) := dk_164 0 5 (dk_at dksX0_lays_1 4 rfl rfl)
theorem dX0_lays_29 : decode cX0_lays 29 = .ok (.iconst 0, 1) := dk_3 (dk_at dksX0_lays_1 7 rfl rfl)
theorem dX0_lays_30 : decode cX0_lays 30 = .ok (.ireturn, 1) := dk_172 (dk_at dksX0_lays_1 8 rfl rfl)
theorem dX0_lays_31 : decode cX0_lays 31 = .ok (.aload_n 0, 1) := dk_42 (dk_at dksX0_lays_1 9 rfl rfl)
theorem dX0_lays_32 : decode cX0_lays 32 = .ok (.iconst 0, 1) := dk_3 (dk_at dksX0_lays_1 10 rfl rfl)
theorem dX0_lays_33 : decode cX0_lays 33 = .ok (.putfield 361, 3) := dk_181 1 105 (dk_at dksX0_lays_1 11 rfl rfl)
theorem dX0_lays_36 : decode cX0_lays 36 = .ok (.iconst 0, 1) := dk_3 (dk_at dksX0_lays_1 14 rfl rfl)
theorem dX0_lays_37 : decode cX0_lays 37 = .ok (.istore_n 3, 1) := dk_62 (dk_at dksX0_lays_1 15 rfl rfl)
theorem dX0_lays_38 : decode cX0_lays 38 = .ok (.iload_n 3, 1) := dk_29 (dk_at dksX0_lays_1 16 rfl rfl)
theorem dX0_lays_39 : decode cX0_lays 39 = .ok (.aload_n 0, 1) := dk_42 (dk_at dksX0_lays_1 17 rfl rfl)
theorem dX0_lays_40 : decode cX0_lays 40 = .ok (.getfield 21, 3) := dk_180 0 21 (dk_at dksX0_lays_1 18 rfl rfl)
theorem dX0_lays_43 : decode cX0_lays 43 = .ok (.getfield 79, 3) := dk_180 0 79 (dk_at dksX0_lays_1 21 rfl rfl)
theorem dX0_lays_46 : decode cX0_lays 46 = .ok (.iconst 0, 1) := dk_3 (dk_at dksX0_lays_2 0 rfl rfl)
theorem dX0_lays_47 : decode cX0_lays 47 = .ok (.iaload, 1) := dk_46 (dk_at dksX0_lays_2 1 rfl rfl)
theorem dX0_lays_48 : decode cX0_lays 48 = .ok (.if_icmp .ge 54, 3) := dk_162 0 54 (dk_at dksX0_lays_2 2 rfl rfl)
theorem dX0_lays_51 : decode cX0_lays 51 = .ok (.iload_n 1, 1) := dk_27 (dk_at dksX0_lays_2 5 rfl rfl)
theorem dX0_lays_52 : decode cX0_lays 52 = .ok (.iload_n 3, 1) := dk_29 (dk_at dksX0_lays_2 6 rfl rfl)
theorem dX0_lays_53 : decode cX0_lays 53 = .ok (.invokestatic 218, 3) := dk_184 0 218 (dk_at dksX0_lays_2 7 rfl rfl)
theorem dX0_lays_56 : decode cX0_lays 56 = .ok (.ifCond .ne 6, 3) := dk_154 0 6 (dk_at dksX0_lays_2 10 rfl rfl)
theorem dX0_lays_59 : decode cX0_lays 59 = .ok (.goto 37, 3) := dk_167 0 37 (dk_at dksX0_lays_2 13 rfl rfl)
theorem dX0_lays_62 : decode cX0_lays 62 = .ok (.aload_n 0, 1) := dk_42 (dk_at dksX0_lays_2 16 rfl rfl)
theorem dX0_lays_63 : decode cX0_lays 63 = .ok (.getfield 57, 3) := dk_180 0 57 (dk_at dksX0_lays_2 17 rfl rfl)
theorem dX0_lays_66 : decode cX0_lays 66 = .ok (.aload_n 0, 1) := dk_42 (dk_at dksX0_lays_2 20 rfl rfl)
theorem dX0_lays_67 : decode cX0_lays 67 = .ok (.getfield 361, 3) := dk_180 1 105 (dk_at dksX0_lays_2 21 rfl rfl)
theorem dX0_lays_70 : decode cX0_lays 70 = .ok (.iload_n 3, 1) := dk_29 (dk_at dksX0_lays_3 0 rfl rfl)
theorem dX0_lays_71 : decode cX0_lays 71 = .ok (.iastore, 1) := dk_79 (dk_at dksX0_lays_3 1 rfl rfl)
theorem dX0_lays_72 : decode cX0_lays 72 = .ok (.aload_n 0, 1) := dk_42 (dk_at dksX0_lays_3 2 rfl rfl)
theorem dX0_lays_73 : decode cX0_lays 73 = .ok (.getfield 60, 3) := dk_180 0 60 (dk_at dksX0_lays_3 3 rfl rfl)
theorem dX0_lays_76 : decode cX0_lays 76 = .ok (.aload_n 0, 1) := dk_42 (dk_at dksX0_lays_3 6 rfl rfl)
theorem dX0_lays_77 : decode cX0_lays 77 = .ok (.getfield 361, 3) := dk_180 1 105 (dk_at dksX0_lays_3 7 rfl rfl)
theorem dX0_lays_80 : decode cX0_lays 80 = .ok (.aload_n 0, 1) := dk_42 (dk_at dksX0_lays_3 10 rfl rfl)
theorem dX0_lays_81 : decode cX0_lays 81 = .ok (.iload_n 3, 1) := dk_29 (dk_at dksX0_lays_3 11 rfl rfl)
theorem dX0_lays_82 : decode cX0_lays 82 = .ok (.invokevirtual 297, 3) := dk_182 1 41 (dk_at dksX0_lays_3 12 rfl rfl)
theorem dX0_lays_85 : decode cX0_lays 85 = .ok (.iastore, 1) := dk_79 (dk_at dksX0_lays_3 15 rfl rfl)
theorem dX0_lays_86 : decode cX0_lays 86 = .ok (.aload_n 0, 1) := dk_42 (dk_at dksX0_lays_3 16 rfl rfl)
theorem dX0_lays_87 : decode cX0_lays 87 = .ok (.dup, 1) := dk_89 (dk_at dksX0_lays_3 17 rfl rfl)
theorem dX0_lays_88 : decode cX0_lays 88 = .ok (.getfield 361, 3) := dk_180 1 105 (dk_at dksX0_lays_3 18 rfl rfl)
theorem dX0_lays_91 : decode cX0_lays 91 = .ok (.iconst 1, 1) := dk_4 (dk_at dksX0_lays_3 21 rfl rfl)
theorem dX0_lays_92 : decode cX0_lays 92 = .ok (.iadd, 1) := dk_96 (dk_at dksX0_lays_3 22 rfl rfl)
theorem dX0_lays_93 : decode cX0_lays 93 = .ok (.putfield 361, 3) := dk_181 1 105 (dk_at dksX0_lays_4 0 rfl rfl)
theorem dX0_lays_96 : decode cX0_lays 96 = .ok (.iinc 3 1, 3) := dk_132 3 1 (dk_at dksX0_lays_4 3 rfl rfl)
theorem dX0_lays_99 : decode cX0_lays 99 = .ok (.goto (-61), 3) := dk_167 255 195 (dk_at dksX0_lays_4 6 rfl rfl)
theorem dX0_lays_102 : decode cX0_lays 102 = .ok (.aload_n 0, 1) := dk_42 (dk_at dksX0_lays_4 9 rfl rfl)
theorem dX0_lays_103 : decode cX0_lays 103 = .ok (.iconst (-1), 1) := dk_2 (dk_at dksX0_lays_4 10 rfl rfl)
theorem dX0_lays_104 : decode cX0_lays 104 = .ok (.putfield 364, 3) := dk_181 1 108 (dk_at dksX0_lays_4 11 rfl rfl)
theorem dX0_lays_107 : decode cX0_lays 107 = .ok (.iconst 1, 1) := dk_4 (dk_at dksX0_lays_4 14 rfl rfl)
theorem dX0_lays_108 : decode cX0_lays 108 = .ok (.ireturn, 1) := dk_172 (dk_at dksX0_lays_4 15 rfl rfl)
abbrev cX0_firsts : ByteArray := prog_1_method_72_code
def yX0_firsts : MethodName := ⟨RX0, "firsts", "(IIII)V"⟩
def dkwX0_firsts_6 : List UInt8 := [46, 21, 7, 104, 96, 182, 1, 111, 132, 5, 1, 167, 255, 157, 177]
abbrev dktX0_firsts_6 : List UInt8 := dkwX0_firsts_6 ++ []
def dkwX0_firsts_5 : List UInt8 := [180, 0, 57, 21, 5, 46, 79, 42, 27, 4, 96, 28, 4, 21, 5, 120, 128, 21, 7, 21, 4, 25, 6, 6]
abbrev dktX0_firsts_5 : List UInt8 := dkwX0_firsts_5 ++ dktX0_firsts_6
def dkwX0_firsts_4 : List UInt8 := [184, 0, 218, 154, 0, 53, 21, 7, 25, 6, 5, 46, 164, 0, 6, 167, 0, 41, 42, 180, 0, 63, 27, 42]
abbrev dktX0_firsts_4 : List UInt8 := dkwX0_firsts_4 ++ dktX0_firsts_5
def dkwX0_firsts_3 : List UInt8 := [180, 0, 57, 21, 5, 46, 50, 58, 6, 29, 42, 180, 0, 60, 21, 5, 46, 96, 54, 7, 28, 21, 5]
abbrev dktX0_firsts_3 : List UInt8 := dkwX0_firsts_3 ++ dktX0_firsts_4
def dkwX0_firsts_2 : List UInt8 := [184, 0, 137, 177, 3, 54, 5, 21, 5, 42, 180, 1, 105, 162, 0, 96, 42, 180, 0, 21, 180, 0, 86, 42]
abbrev dktX0_firsts_2 : List UInt8 := dkwX0_firsts_2 ++ dktX0_firsts_3
def dkwX0_firsts_1 : List UInt8 := [160, 0, 27, 42, 21, 4, 181, 1, 108, 42, 180, 0, 63, 3, 42, 180, 0, 66, 3, 42, 180, 1, 105]
abbrev dktX0_firsts_1 : List UInt8 := dkwX0_firsts_1 ++ dktX0_firsts_2
def dkwX0_firsts_0 : List UInt8 := [42, 180, 1, 108, 2, 159, 0, 13, 21, 4, 42, 180, 1, 108, 161, 0, 4, 177, 27, 42, 180, 1, 105]
abbrev dktX0_firsts_0 : List UInt8 := dkwX0_firsts_0 ++ dktX0_firsts_1
theorem dksX0_firsts_0 : cX0_firsts.data.toList.drop 0 = dktX0_firsts_0 := by decide +kernel
theorem dksX0_firsts_1 : cX0_firsts.data.toList.drop 23 = dktX0_firsts_1 := dk_seg dksX0_firsts_0 23 rfl rfl
theorem dksX0_firsts_2 : cX0_firsts.data.toList.drop 46 = dktX0_firsts_2 := dk_seg dksX0_firsts_1 23 rfl rfl
theorem dksX0_firsts_3 : cX0_firsts.data.toList.drop 70 = dktX0_firsts_3 := dk_seg dksX0_firsts_2 24 rfl rfl
theorem dksX0_firsts_4 : cX0_firsts.data.toList.drop 93 = dktX0_firsts_4 := dk_seg dksX0_firsts_3 23 rfl rfl
theorem dksX0_firsts_5 : cX0_firsts.data.toList.drop 117 = dktX0_firsts_5 := dk_seg dksX0_firsts_4 24 rfl rfl
theorem dksX0_firsts_6 : cX0_firsts.data.toList.drop 141 = dktX0_firsts_6 := dk_seg dksX0_firsts_5 24 rfl rfl
theorem dX0_firsts_0 : decode cX0_firsts 0 = .ok (.aload_n 0, 1) := dk_42 (dk_at dksX0_firsts_0 0 rfl rfl)
theorem dX0_firsts_1 : decode cX0_firsts 1 = .ok (.getfield 364, 3) := dk_180 1 108 (dk_at dksX0_firsts_0 1 rfl rfl)
theorem dX0_firsts_4 : decode cX0_firsts 4 = .ok (.iconst (-1), 1) := dk_2 (dk_at dksX0_firsts_0 4 rfl rfl)
theorem dX0_firsts_5 : decode cX0_firsts 5 = .ok (.if_icmp .eq 13, 3) := dk_159 0 13 (dk_at dksX0_firsts_0 5 rfl rfl)
theorem dX0_firsts_8 : decode cX0_firsts 8 = .ok (.iload 4, 2) := dk_21 4 (dk_at dksX0_firsts_0 8 rfl rfl)
theorem dX0_firsts_10 : decode cX0_firsts 10 = .ok (.aload_n 0, 1) := dk_42 (dk_at dksX0_firsts_0 10 rfl rfl)
theorem dX0_firsts_11 : decode cX0_firsts 11 = .ok (.getfield 364, 3) := dk_180 1 108 (dk_at dksX0_firsts_0 11 rfl rfl)
theorem dX0_firsts_14 : decode cX0_firsts 14 = .ok (.if_icmp .lt 4, 3) := dk_161 0 4 (dk_at dksX0_firsts_0 14 rfl rfl)
theorem dX0_firsts_17 : decode cX0_firsts 17 = .ok (.return_, 1) := dk_177 (dk_at dksX0_firsts_0 17 rfl rfl)
theorem dX0_firsts_18 : decode cX0_firsts 18 = .ok (.iload_n 1, 1) := dk_27 (dk_at dksX0_firsts_0 18 rfl rfl)
theorem dX0_firsts_19 : decode cX0_firsts 19 = .ok (.aload_n 0, 1) := dk_42 (dk_at dksX0_firsts_0 19 rfl rfl)
theorem dX0_firsts_20 : decode cX0_firsts 20 = .ok (.getfield 361, 3) := dk_180 1 105 (dk_at dksX0_firsts_0 20 rfl rfl)
theorem dX0_firsts_23 : decode cX0_firsts 23 = .ok (.if_icmp .ne 27, 3) := dk_160 0 27 (dk_at dksX0_firsts_1 0 rfl rfl)
theorem dX0_firsts_26 : decode cX0_firsts 26 = .ok (.aload_n 0, 1) := dk_42 (dk_at dksX0_firsts_1 3 rfl rfl)
theorem dX0_firsts_27 : decode cX0_firsts 27 = .ok (.iload 4, 2) := dk_21 4 (dk_at dksX0_firsts_1 4 rfl rfl)
theorem dX0_firsts_29 : decode cX0_firsts 29 = .ok (.putfield 364, 3) := dk_181 1 108 (dk_at dksX0_firsts_1 6 rfl rfl)
theorem dX0_firsts_32 : decode cX0_firsts 32 = .ok (.aload_n 0, 1) := dk_42 (dk_at dksX0_firsts_1 9 rfl rfl)
theorem dX0_firsts_33 : decode cX0_firsts 33 = .ok (.getfield 63, 3) := dk_180 0 63 (dk_at dksX0_firsts_1 10 rfl rfl)
theorem dX0_firsts_36 : decode cX0_firsts 36 = .ok (.iconst 0, 1) := dk_3 (dk_at dksX0_firsts_1 13 rfl rfl)
theorem dX0_firsts_37 : decode cX0_firsts 37 = .ok (.aload_n 0, 1) := dk_42 (dk_at dksX0_firsts_1 14 rfl rfl)
theorem dX0_firsts_38 : decode cX0_firsts 38 = .ok (.getfield 66, 3) := dk_180 0 66 (dk_at dksX0_firsts_1 15 rfl rfl)
theorem dX0_firsts_41 : decode cX0_firsts 41 = .ok (.iconst 0, 1) := dk_3 (dk_at dksX0_firsts_1 18 rfl rfl)
theorem dX0_firsts_42 : decode cX0_firsts 42 = .ok (.aload_n 0, 1) := dk_42 (dk_at dksX0_firsts_1 19 rfl rfl)
theorem dX0_firsts_43 : decode cX0_firsts 43 = .ok (.getfield 361, 3) := dk_180 1 105 (dk_at dksX0_firsts_1 20 rfl rfl)
theorem dX0_firsts_46 : decode cX0_firsts 46 = .ok (.invokestatic 137, 3) := dk_184 0 137 (dk_at dksX0_firsts_2 0 rfl rfl)
theorem dX0_firsts_49 : decode cX0_firsts 49 = .ok (.return_, 1) := dk_177 (dk_at dksX0_firsts_2 3 rfl rfl)
theorem dX0_firsts_50 : decode cX0_firsts 50 = .ok (.iconst 0, 1) := dk_3 (dk_at dksX0_firsts_2 4 rfl rfl)
theorem dX0_firsts_51 : decode cX0_firsts 51 = .ok (.istore 5, 2) := dk_54 5 (dk_at dksX0_firsts_2 5 rfl rfl)
theorem dX0_firsts_53 : decode cX0_firsts 53 = .ok (.iload 5, 2) := dk_21 5 (dk_at dksX0_firsts_2 7 rfl rfl)
theorem dX0_firsts_55 : decode cX0_firsts 55 = .ok (.aload_n 0, 1) := dk_42 (dk_at dksX0_firsts_2 9 rfl rfl)
theorem dX0_firsts_56 : decode cX0_firsts 56 = .ok (.getfield 361, 3) := dk_180 1 105 (dk_at dksX0_firsts_2 10 rfl rfl)
theorem dX0_firsts_59 : decode cX0_firsts 59 = .ok (.if_icmp .ge 96, 3) := dk_162 0 96 (dk_at dksX0_firsts_2 13 rfl rfl)
theorem dX0_firsts_62 : decode cX0_firsts 62 = .ok (.aload_n 0, 1) := dk_42 (dk_at dksX0_firsts_2 16 rfl rfl)
theorem dX0_firsts_63 : decode cX0_firsts 63 = .ok (.getfield 21, 3) := dk_180 0 21 (dk_at dksX0_firsts_2 17 rfl rfl)
theorem dX0_firsts_66 : decode cX0_firsts 66 = .ok (.getfield 86, 3) := dk_180 0 86 (dk_at dksX0_firsts_2 20 rfl rfl)
theorem dX0_firsts_69 : decode cX0_firsts 69 = .ok (.aload_n 0, 1) := dk_42 (dk_at dksX0_firsts_2 23 rfl rfl)
theorem dX0_firsts_70 : decode cX0_firsts 70 = .ok (.getfield 57, 3) := dk_180 0 57 (dk_at dksX0_firsts_3 0 rfl rfl)
theorem dX0_firsts_73 : decode cX0_firsts 73 = .ok (.iload 5, 2) := dk_21 5 (dk_at dksX0_firsts_3 3 rfl rfl)
theorem dX0_firsts_75 : decode cX0_firsts 75 = .ok (.iaload, 1) := dk_46 (dk_at dksX0_firsts_3 5 rfl rfl)
theorem dX0_firsts_76 : decode cX0_firsts 76 = .ok (.aaload, 1) := dk_50 (dk_at dksX0_firsts_3 6 rfl rfl)
theorem dX0_firsts_77 : decode cX0_firsts 77 = .ok (.astore 6, 2) := dk_58 6 (dk_at dksX0_firsts_3 7 rfl rfl)
theorem dX0_firsts_79 : decode cX0_firsts 79 = .ok (.iload_n 3, 1) := dk_29 (dk_at dksX0_firsts_3 9 rfl rfl)
theorem dX0_firsts_80 : decode cX0_firsts 80 = .ok (.aload_n 0, 1) := dk_42 (dk_at dksX0_firsts_3 10 rfl rfl)
theorem dX0_firsts_81 : decode cX0_firsts 81 = .ok (.getfield 60, 3) := dk_180 0 60 (dk_at dksX0_firsts_3 11 rfl rfl)
theorem dX0_firsts_84 : decode cX0_firsts 84 = .ok (.iload 5, 2) := dk_21 5 (dk_at dksX0_firsts_3 14 rfl rfl)
theorem dX0_firsts_86 : decode cX0_firsts 86 = .ok (.iaload, 1) := dk_46 (dk_at dksX0_firsts_3 16 rfl rfl)
theorem dX0_firsts_87 : decode cX0_firsts 87 = .ok (.iadd, 1) := dk_96 (dk_at dksX0_firsts_3 17 rfl rfl)
theorem dX0_firsts_88 : decode cX0_firsts 88 = .ok (.istore 7, 2) := dk_54 7 (dk_at dksX0_firsts_3 18 rfl rfl)
theorem dX0_firsts_90 : decode cX0_firsts 90 = .ok (.iload_n 2, 1) := dk_28 (dk_at dksX0_firsts_3 20 rfl rfl)
theorem dX0_firsts_91 : decode cX0_firsts 91 = .ok (.iload 5, 2) := dk_21 5 (dk_at dksX0_firsts_3 21 rfl rfl)
theorem dX0_firsts_93 : decode cX0_firsts 93 = .ok (.invokestatic 218, 3) := dk_184 0 218 (dk_at dksX0_firsts_4 0 rfl rfl)
theorem dX0_firsts_96 : decode cX0_firsts 96 = .ok (.ifCond .ne 53, 3) := dk_154 0 53 (dk_at dksX0_firsts_4 3 rfl rfl)
theorem dX0_firsts_99 : decode cX0_firsts 99 = .ok (.iload 7, 2) := dk_21 7 (dk_at dksX0_firsts_4 6 rfl rfl)
theorem dX0_firsts_101 : decode cX0_firsts 101 = .ok (.aload 6, 2) := dk_25 6 (dk_at dksX0_firsts_4 8 rfl rfl)
theorem dX0_firsts_103 : decode cX0_firsts 103 = .ok (.iconst 2, 1) := dk_5 (dk_at dksX0_firsts_4 10 rfl rfl)
theorem dX0_firsts_104 : decode cX0_firsts 104 = .ok (.iaload, 1) := dk_46 (dk_at dksX0_firsts_4 11 rfl rfl)
theorem dX0_firsts_105 : decode cX0_firsts 105 = .ok (.if_icmp .le 6, 3) := dk_164 0 6 (dk_at dksX0_firsts_4 12 rfl rfl)
theorem dX0_firsts_108 : decode cX0_firsts 108 = .ok (.goto 41, 3) := dk_167 0 41 (dk_at dksX0_firsts_4 15 rfl rfl)
theorem dX0_firsts_111 : decode cX0_firsts 111 = .ok (.aload_n 0, 1) := dk_42 (dk_at dksX0_firsts_4 18 rfl rfl)
theorem dX0_firsts_112 : decode cX0_firsts 112 = .ok (.getfield 63, 3) := dk_180 0 63 (dk_at dksX0_firsts_4 19 rfl rfl)
theorem dX0_firsts_115 : decode cX0_firsts 115 = .ok (.iload_n 1, 1) := dk_27 (dk_at dksX0_firsts_4 22 rfl rfl)
theorem dX0_firsts_116 : decode cX0_firsts 116 = .ok (.aload_n 0, 1) := dk_42 (dk_at dksX0_firsts_4 23 rfl rfl)
theorem dX0_firsts_117 : decode cX0_firsts 117 = .ok (.getfield 57, 3) := dk_180 0 57 (dk_at dksX0_firsts_5 0 rfl rfl)
theorem dX0_firsts_120 : decode cX0_firsts 120 = .ok (.iload 5, 2) := dk_21 5 (dk_at dksX0_firsts_5 3 rfl rfl)
theorem dX0_firsts_122 : decode cX0_firsts 122 = .ok (.iaload, 1) := dk_46 (dk_at dksX0_firsts_5 5 rfl rfl)
theorem dX0_firsts_123 : decode cX0_firsts 123 = .ok (.iastore, 1) := dk_79 (dk_at dksX0_firsts_5 6 rfl rfl)
theorem dX0_firsts_124 : decode cX0_firsts 124 = .ok (.aload_n 0, 1) := dk_42 (dk_at dksX0_firsts_5 7 rfl rfl)
theorem dX0_firsts_125 : decode cX0_firsts 125 = .ok (.iload_n 1, 1) := dk_27 (dk_at dksX0_firsts_5 8 rfl rfl)
theorem dX0_firsts_126 : decode cX0_firsts 126 = .ok (.iconst 1, 1) := dk_4 (dk_at dksX0_firsts_5 9 rfl rfl)
theorem dX0_firsts_127 : decode cX0_firsts 127 = .ok (.iadd, 1) := dk_96 (dk_at dksX0_firsts_5 10 rfl rfl)
theorem dX0_firsts_128 : decode cX0_firsts 128 = .ok (.iload_n 2, 1) := dk_28 (dk_at dksX0_firsts_5 11 rfl rfl)
theorem dX0_firsts_129 : decode cX0_firsts 129 = .ok (.iconst 1, 1) := dk_4 (dk_at dksX0_firsts_5 12 rfl rfl)
theorem dX0_firsts_130 : decode cX0_firsts 130 = .ok (.iload 5, 2) := dk_21 5 (dk_at dksX0_firsts_5 13 rfl rfl)
theorem dX0_firsts_132 : decode cX0_firsts 132 = .ok (.ishl, 1) := dk_120 (dk_at dksX0_firsts_5 15 rfl rfl)
theorem dX0_firsts_133 : decode cX0_firsts 133 = .ok (.ior, 1) := dk_128 (dk_at dksX0_firsts_5 16 rfl rfl)
theorem dX0_firsts_134 : decode cX0_firsts 134 = .ok (.iload 7, 2) := dk_21 7 (dk_at dksX0_firsts_5 17 rfl rfl)
theorem dX0_firsts_136 : decode cX0_firsts 136 = .ok (.iload 4, 2) := dk_21 4 (dk_at dksX0_firsts_5 19 rfl rfl)
theorem dX0_firsts_138 : decode cX0_firsts 138 = .ok (.aload 6, 2) := dk_25 6 (dk_at dksX0_firsts_5 21 rfl rfl)
theorem dX0_firsts_140 : decode cX0_firsts 140 = .ok (.iconst 3, 1) := dk_6 (dk_at dksX0_firsts_5 23 rfl rfl)
theorem dX0_firsts_141 : decode cX0_firsts 141 = .ok (.iaload, 1) := dk_46 (dk_at dksX0_firsts_6 0 rfl rfl)
theorem dX0_firsts_142 : decode cX0_firsts 142 = .ok (.iload 7, 2) := dk_21 7 (dk_at dksX0_firsts_6 1 rfl rfl)
theorem dX0_firsts_144 : decode cX0_firsts 144 = .ok (.imul, 1) := dk_104 (dk_at dksX0_firsts_6 3 rfl rfl)
theorem dX0_firsts_145 : decode cX0_firsts 145 = .ok (.iadd, 1) := dk_96 (dk_at dksX0_firsts_6 4 rfl rfl)
theorem dX0_firsts_146 : decode cX0_firsts 146 = .ok (.invokevirtual 367, 3) := dk_182 1 111 (dk_at dksX0_firsts_6 5 rfl rfl)
theorem dX0_firsts_149 : decode cX0_firsts 149 = .ok (.iinc 5 1, 3) := dk_132 5 1 (dk_at dksX0_firsts_6 8 rfl rfl)
theorem dX0_firsts_152 : decode cX0_firsts 152 = .ok (.goto (-99), 3) := dk_167 255 157 (dk_at dksX0_firsts_6 11 rfl rfl)
theorem dX0_firsts_155 : decode cX0_firsts 155 = .ok (.return_, 1) := dk_177 (dk_at dksX0_firsts_6 14 rfl rfl)
abbrev cX0_twoJibs : ByteArray := prog_1_method_77_code
def yX0_twoJibs : MethodName := ⟨RX0, "twoJibs", "(II)I"⟩
def dkwX0_twoJibs_3 : List UInt8 := [180, 0, 72, 29, 46, 172]
abbrev dktX0_twoJibs_3 : List UInt8 := dkwX0_twoJibs_3 ++ []
def dkwX0_twoJibs_2 : List UInt8 := [180, 1, 108, 172, 3, 62, 42, 180, 0, 57, 29, 46, 28, 159, 0, 9, 132, 3, 1, 167, 255, 243, 42]
abbrev dktX0_twoJibs_2 : List UInt8 := dkwX0_twoJibs_2 ++ dktX0_twoJibs_3
def dkwX0_twoJibs_1 : List UInt8 := [28, 184, 0, 218, 154, 0, 5, 2, 172, 42, 3, 3, 3, 182, 1, 124, 28, 2, 160, 0, 8, 42]
abbrev dktX0_twoJibs_1 : List UInt8 := dkwX0_twoJibs_1 ++ dktX0_twoJibs_2
def dkwX0_twoJibs_0 : List UInt8 := [42, 27, 16, 8, 182, 1, 115, 153, 0, 24, 28, 2, 159, 0, 21, 42, 28, 182, 0, 215, 153, 0, 11, 27]
abbrev dktX0_twoJibs_0 : List UInt8 := dkwX0_twoJibs_0 ++ dktX0_twoJibs_1
theorem dksX0_twoJibs_0 : cX0_twoJibs.data.toList.drop 0 = dktX0_twoJibs_0 := by decide +kernel
theorem dksX0_twoJibs_1 : cX0_twoJibs.data.toList.drop 24 = dktX0_twoJibs_1 := dk_seg dksX0_twoJibs_0 24 rfl rfl
theorem dksX0_twoJibs_2 : cX0_twoJibs.data.toList.drop 46 = dktX0_twoJibs_2 := dk_seg dksX0_twoJibs_1 22 rfl rfl
theorem dksX0_twoJibs_3 : cX0_twoJibs.data.toList.drop 69 = dktX0_twoJibs_3 := dk_seg dksX0_twoJibs_2 23 rfl rfl
theorem dX0_twoJibs_0 : decode cX0_twoJibs 0 = .ok (.aload_n 0, 1) := dk_42 (dk_at dksX0_twoJibs_0 0 rfl rfl)
theorem dX0_twoJibs_1 : decode cX0_twoJibs 1 = .ok (.iload_n 1, 1) := dk_27 (dk_at dksX0_twoJibs_0 1 rfl rfl)
theorem dX0_twoJibs_2 : decode cX0_twoJibs 2 = .ok (.bipush 8, 2) := dk_16 8 (dk_at dksX0_twoJibs_0 2 rfl rfl)
theorem dX0_twoJibs_4 : decode cX0_twoJibs 4 = .ok (.invokevirtual 371, 3) := dk_182 1 115 (dk_at dksX0_twoJibs_0 4 rfl rfl)
theorem dX0_twoJibs_7 : decode cX0_twoJibs 7 = .ok (.ifCond .eq 24, 3) := dk_153 0 24 (dk_at dksX0_twoJibs_0 7 rfl rfl)
theorem dX0_twoJibs_10 : decode cX0_twoJibs 10 = .ok (.iload_n 2, 1) := dk_28 (dk_at dksX0_twoJibs_0 10 rfl rfl)
theorem dX0_twoJibs_11 : decode cX0_twoJibs 11 = .ok (.iconst (-1), 1) := dk_2 (dk_at dksX0_twoJibs_0 11 rfl rfl)
theorem dX0_twoJibs_12 : decode cX0_twoJibs 12 = .ok (.if_icmp .eq 21, 3) := dk_159 0 21 (dk_at dksX0_twoJibs_0 12 rfl rfl)
theorem dX0_twoJibs_15 : decode cX0_twoJibs 15 = .ok (.aload_n 0, 1) := dk_42 (dk_at dksX0_twoJibs_0 15 rfl rfl)
theorem dX0_twoJibs_16 : decode cX0_twoJibs 16 = .ok (.iload_n 2, 1) := dk_28 (dk_at dksX0_twoJibs_0 16 rfl rfl)
theorem dX0_twoJibs_17 : decode cX0_twoJibs 17 = .ok (.invokevirtual 215, 3) := dk_182 0 215 (dk_at dksX0_twoJibs_0 17 rfl rfl)
theorem dX0_twoJibs_20 : decode cX0_twoJibs 20 = .ok (.ifCond .eq 11, 3) := dk_153 0 11 (dk_at dksX0_twoJibs_0 20 rfl rfl)
theorem dX0_twoJibs_23 : decode cX0_twoJibs 23 = .ok (.iload_n 1, 1) := dk_27 (dk_at dksX0_twoJibs_0 23 rfl rfl)
theorem dX0_twoJibs_24 : decode cX0_twoJibs 24 = .ok (.iload_n 2, 1) := dk_28 (dk_at dksX0_twoJibs_1 0 rfl rfl)
theorem dX0_twoJibs_25 : decode cX0_twoJibs 25 = .ok (.invokestatic 218, 3) := dk_184 0 218 (dk_at dksX0_twoJibs_1 1 rfl rfl)
theorem dX0_twoJibs_28 : decode cX0_twoJibs 28 = .ok (.ifCond .ne 5, 3) := dk_154 0 5 (dk_at dksX0_twoJibs_1 4 rfl rfl)
theorem dX0_twoJibs_31 : decode cX0_twoJibs 31 = .ok (.iconst (-1), 1) := dk_2 (dk_at dksX0_twoJibs_1 7 rfl rfl)
theorem dX0_twoJibs_32 : decode cX0_twoJibs 32 = .ok (.ireturn, 1) := dk_172 (dk_at dksX0_twoJibs_1 8 rfl rfl)
theorem dX0_twoJibs_33 : decode cX0_twoJibs 33 = .ok (.aload_n 0, 1) := dk_42 (dk_at dksX0_twoJibs_1 9 rfl rfl)
theorem dX0_twoJibs_34 : decode cX0_twoJibs 34 = .ok (.iconst 0, 1) := dk_3 (dk_at dksX0_twoJibs_1 10 rfl rfl)
theorem dX0_twoJibs_35 : decode cX0_twoJibs 35 = .ok (.iconst 0, 1) := dk_3 (dk_at dksX0_twoJibs_1 11 rfl rfl)
theorem dX0_twoJibs_36 : decode cX0_twoJibs 36 = .ok (.iconst 0, 1) := dk_3 (dk_at dksX0_twoJibs_1 12 rfl rfl)
theorem dX0_twoJibs_37 : decode cX0_twoJibs 37 = .ok (.invokevirtual 380, 3) := dk_182 1 124 (dk_at dksX0_twoJibs_1 13 rfl rfl)
theorem dX0_twoJibs_40 : decode cX0_twoJibs 40 = .ok (.iload_n 2, 1) := dk_28 (dk_at dksX0_twoJibs_1 16 rfl rfl)
theorem dX0_twoJibs_41 : decode cX0_twoJibs 41 = .ok (.iconst (-1), 1) := dk_2 (dk_at dksX0_twoJibs_1 17 rfl rfl)
theorem dX0_twoJibs_42 : decode cX0_twoJibs 42 = .ok (.if_icmp .ne 8, 3) := dk_160 0 8 (dk_at dksX0_twoJibs_1 18 rfl rfl)
theorem dX0_twoJibs_45 : decode cX0_twoJibs 45 = .ok (.aload_n 0, 1) := dk_42 (dk_at dksX0_twoJibs_1 21 rfl rfl)
theorem dX0_twoJibs_46 : decode cX0_twoJibs 46 = .ok (.getfield 364, 3) := dk_180 1 108 (dk_at dksX0_twoJibs_2 0 rfl rfl)
theorem dX0_twoJibs_49 : decode cX0_twoJibs 49 = .ok (.ireturn, 1) := dk_172 (dk_at dksX0_twoJibs_2 3 rfl rfl)
theorem dX0_twoJibs_50 : decode cX0_twoJibs 50 = .ok (.iconst 0, 1) := dk_3 (dk_at dksX0_twoJibs_2 4 rfl rfl)
theorem dX0_twoJibs_51 : decode cX0_twoJibs 51 = .ok (.istore_n 3, 1) := dk_62 (dk_at dksX0_twoJibs_2 5 rfl rfl)
theorem dX0_twoJibs_52 : decode cX0_twoJibs 52 = .ok (.aload_n 0, 1) := dk_42 (dk_at dksX0_twoJibs_2 6 rfl rfl)
theorem dX0_twoJibs_53 : decode cX0_twoJibs 53 = .ok (.getfield 57, 3) := dk_180 0 57 (dk_at dksX0_twoJibs_2 7 rfl rfl)
theorem dX0_twoJibs_56 : decode cX0_twoJibs 56 = .ok (.iload_n 3, 1) := dk_29 (dk_at dksX0_twoJibs_2 10 rfl rfl)
theorem dX0_twoJibs_57 : decode cX0_twoJibs 57 = .ok (.iaload, 1) := dk_46 (dk_at dksX0_twoJibs_2 11 rfl rfl)
theorem dX0_twoJibs_58 : decode cX0_twoJibs 58 = .ok (.iload_n 2, 1) := dk_28 (dk_at dksX0_twoJibs_2 12 rfl rfl)
theorem dX0_twoJibs_59 : decode cX0_twoJibs 59 = .ok (.if_icmp .eq 9, 3) := dk_159 0 9 (dk_at dksX0_twoJibs_2 13 rfl rfl)
theorem dX0_twoJibs_62 : decode cX0_twoJibs 62 = .ok (.iinc 3 1, 3) := dk_132 3 1 (dk_at dksX0_twoJibs_2 16 rfl rfl)
theorem dX0_twoJibs_65 : decode cX0_twoJibs 65 = .ok (.goto (-13), 3) := dk_167 255 243 (dk_at dksX0_twoJibs_2 19 rfl rfl)
theorem dX0_twoJibs_68 : decode cX0_twoJibs 68 = .ok (.aload_n 0, 1) := dk_42 (dk_at dksX0_twoJibs_2 22 rfl rfl)
theorem dX0_twoJibs_69 : decode cX0_twoJibs 69 = .ok (.getfield 72, 3) := dk_180 0 72 (dk_at dksX0_twoJibs_3 0 rfl rfl)
theorem dX0_twoJibs_72 : decode cX0_twoJibs 72 = .ok (.iload_n 3, 1) := dk_29 (dk_at dksX0_twoJibs_3 3 rfl rfl)
theorem dX0_twoJibs_73 : decode cX0_twoJibs 73 = .ok (.iaload, 1) := dk_46 (dk_at dksX0_twoJibs_3 4 rfl rfl)
theorem dX0_twoJibs_74 : decode cX0_twoJibs 74 = .ok (.ireturn, 1) := dk_172 (dk_at dksX0_twoJibs_3 5 rfl rfl)
abbrev cX0_both : ByteArray := prog_1_method_76_code
def yX0_both : MethodName := ⟨RX0, "both", "(III)V"⟩
def dkwX0_both_7 : List UInt8 := [167, 255, 150, 177]
abbrev dktX0_both_7 : List UInt8 := dkwX0_both_7 ++ []
def dkwX0_both_6 : List UInt8 := [42, 180, 0, 69, 21, 5, 46, 42, 180, 0, 60, 21, 5, 46, 96, 184, 0, 143, 182, 1, 124, 132, 5, 1]
abbrev dktX0_both_6 : List UInt8 := dkwX0_both_6 ++ dktX0_both_7
def dkwX0_both_5 : List UInt8 := [180, 0, 69, 21, 5, 42, 21, 5, 28, 182, 1, 121, 79, 42, 27, 4, 96, 28, 4, 21, 5, 120, 128, 29]
abbrev dktX0_both_5 : List UInt8 := dkwX0_both_5 ++ dktX0_both_6
def dkwX0_both_4 : List UInt8 := [154, 0, 67, 21, 4, 21, 6, 126, 153, 0, 6, 167, 0, 56, 21, 4, 21, 6, 128, 54, 4, 42]
abbrev dktX0_both_4 : List UInt8 := dkwX0_both_4 ++ dktX0_both_5
def dkwX0_both_3 : List UInt8 := [180, 0, 86, 42, 180, 0, 57, 21, 5, 46, 50, 7, 46, 120, 54, 6, 28, 21, 5, 184, 0, 218]
abbrev dktX0_both_3 : List UInt8 := dkwX0_both_3 ++ dktX0_both_4
def dkwX0_both_2 : List UInt8 := [184, 0, 137, 177, 3, 54, 4, 3, 54, 5, 21, 5, 42, 180, 1, 105, 162, 0, 103, 4, 42, 180, 0, 21]
abbrev dktX0_both_2 : List UInt8 := dkwX0_both_2 ++ dktX0_both_3
def dkwX0_both_1 : List UInt8 := [160, 0, 26, 42, 29, 181, 1, 108, 42, 180, 0, 69, 3, 42, 180, 0, 72, 3, 42, 180, 1, 105]
abbrev dktX0_both_1 : List UInt8 := dkwX0_both_1 ++ dktX0_both_2
def dkwX0_both_0 : List UInt8 := [42, 180, 1, 108, 2, 159, 0, 12, 29, 42, 180, 1, 108, 161, 0, 4, 177, 27, 42, 180, 1, 105]
abbrev dktX0_both_0 : List UInt8 := dkwX0_both_0 ++ dktX0_both_1
theorem dksX0_both_0 : cX0_both.data.toList.drop 0 = dktX0_both_0 := by decide +kernel
theorem dksX0_both_1 : cX0_both.data.toList.drop 22 = dktX0_both_1 := dk_seg dksX0_both_0 22 rfl rfl
theorem dksX0_both_2 : cX0_both.data.toList.drop 44 = dktX0_both_2 := dk_seg dksX0_both_1 22 rfl rfl
theorem dksX0_both_3 : cX0_both.data.toList.drop 68 = dktX0_both_3 := dk_seg dksX0_both_2 24 rfl rfl
theorem dksX0_both_4 : cX0_both.data.toList.drop 90 = dktX0_both_4 := dk_seg dksX0_both_3 22 rfl rfl
theorem dksX0_both_5 : cX0_both.data.toList.drop 112 = dktX0_both_5 := dk_seg dksX0_both_4 22 rfl rfl
theorem dksX0_both_6 : cX0_both.data.toList.drop 136 = dktX0_both_6 := dk_seg dksX0_both_5 24 rfl rfl
theorem dksX0_both_7 : cX0_both.data.toList.drop 160 = dktX0_both_7 := dk_seg dksX0_both_6 24 rfl rfl
theorem dX0_both_0 : decode cX0_both 0 = .ok (.aload_n 0, 1) := dk_42 (dk_at dksX0_both_0 0 rfl rfl)
theorem dX0_both_1 : decode cX0_both 1 = .ok (.getfield 364, 3) := dk_180 1 108 (dk_at dksX0_both_0 1 rfl rfl)
theorem dX0_both_4 : decode cX0_both 4 = .ok (.iconst (-1), 1) := dk_2 (dk_at dksX0_both_0 4 rfl rfl)
theorem dX0_both_5 : decode cX0_both 5 = .ok (.if_icmp .eq 12, 3) := dk_159 0 12 (dk_at dksX0_both_0 5 rfl rfl)
theorem dX0_both_8 : decode cX0_both 8 = .ok (.iload_n 3, 1) := dk_29 (dk_at dksX0_both_0 8 rfl rfl)
theorem dX0_both_9 : decode cX0_both 9 = .ok (.aload_n 0, 1) := dk_42 (dk_at dksX0_both_0 9 rfl rfl)
theorem dX0_both_10 : decode cX0_both 10 = .ok (.getfield 364, 3) := dk_180 1 108 (dk_at dksX0_both_0 10 rfl rfl)
theorem dX0_both_13 : decode cX0_both 13 = .ok (.if_icmp .lt 4, 3) := dk_161 0 4 (dk_at dksX0_both_0 13 rfl rfl)
theorem dX0_both_16 : decode cX0_both 16 = .ok (.return_, 1) := dk_177 (dk_at dksX0_both_0 16 rfl rfl)
theorem dX0_both_17 : decode cX0_both 17 = .ok (.iload_n 1, 1) := dk_27 (dk_at dksX0_both_0 17 rfl rfl)
theorem dX0_both_18 : decode cX0_both 18 = .ok (.aload_n 0, 1) := dk_42 (dk_at dksX0_both_0 18 rfl rfl)
theorem dX0_both_19 : decode cX0_both 19 = .ok (.getfield 361, 3) := dk_180 1 105 (dk_at dksX0_both_0 19 rfl rfl)
theorem dX0_both_22 : decode cX0_both 22 = .ok (.if_icmp .ne 26, 3) := dk_160 0 26 (dk_at dksX0_both_1 0 rfl rfl)
theorem dX0_both_25 : decode cX0_both 25 = .ok (.aload_n 0, 1) := dk_42 (dk_at dksX0_both_1 3 rfl rfl)
theorem dX0_both_26 : decode cX0_both 26 = .ok (.iload_n 3, 1) := dk_29 (dk_at dksX0_both_1 4 rfl rfl)
theorem dX0_both_27 : decode cX0_both 27 = .ok (.putfield 364, 3) := dk_181 1 108 (dk_at dksX0_both_1 5 rfl rfl)
theorem dX0_both_30 : decode cX0_both 30 = .ok (.aload_n 0, 1) := dk_42 (dk_at dksX0_both_1 8 rfl rfl)
theorem dX0_both_31 : decode cX0_both 31 = .ok (.getfield 69, 3) := dk_180 0 69 (dk_at dksX0_both_1 9 rfl rfl)
theorem dX0_both_34 : decode cX0_both 34 = .ok (.iconst 0, 1) := dk_3 (dk_at dksX0_both_1 12 rfl rfl)
theorem dX0_both_35 : decode cX0_both 35 = .ok (.aload_n 0, 1) := dk_42 (dk_at dksX0_both_1 13 rfl rfl)
theorem dX0_both_36 : decode cX0_both 36 = .ok (.getfield 72, 3) := dk_180 0 72 (dk_at dksX0_both_1 14 rfl rfl)
theorem dX0_both_39 : decode cX0_both 39 = .ok (.iconst 0, 1) := dk_3 (dk_at dksX0_both_1 17 rfl rfl)
theorem dX0_both_40 : decode cX0_both 40 = .ok (.aload_n 0, 1) := dk_42 (dk_at dksX0_both_1 18 rfl rfl)
theorem dX0_both_41 : decode cX0_both 41 = .ok (.getfield 361, 3) := dk_180 1 105 (dk_at dksX0_both_1 19 rfl rfl)
theorem dX0_both_44 : decode cX0_both 44 = .ok (.invokestatic 137, 3) := dk_184 0 137 (dk_at dksX0_both_2 0 rfl rfl)
theorem dX0_both_47 : decode cX0_both 47 = .ok (.return_, 1) := dk_177 (dk_at dksX0_both_2 3 rfl rfl)
theorem dX0_both_48 : decode cX0_both 48 = .ok (.iconst 0, 1) := dk_3 (dk_at dksX0_both_2 4 rfl rfl)
theorem dX0_both_49 : decode cX0_both 49 = .ok (.istore 4, 2) := dk_54 4 (dk_at dksX0_both_2 5 rfl rfl)
theorem dX0_both_51 : decode cX0_both 51 = .ok (.iconst 0, 1) := dk_3 (dk_at dksX0_both_2 7 rfl rfl)
theorem dX0_both_52 : decode cX0_both 52 = .ok (.istore 5, 2) := dk_54 5 (dk_at dksX0_both_2 8 rfl rfl)
theorem dX0_both_54 : decode cX0_both 54 = .ok (.iload 5, 2) := dk_21 5 (dk_at dksX0_both_2 10 rfl rfl)
theorem dX0_both_56 : decode cX0_both 56 = .ok (.aload_n 0, 1) := dk_42 (dk_at dksX0_both_2 12 rfl rfl)
theorem dX0_both_57 : decode cX0_both 57 = .ok (.getfield 361, 3) := dk_180 1 105 (dk_at dksX0_both_2 13 rfl rfl)
theorem dX0_both_60 : decode cX0_both 60 = .ok (.if_icmp .ge 103, 3) := dk_162 0 103 (dk_at dksX0_both_2 16 rfl rfl)
theorem dX0_both_63 : decode cX0_both 63 = .ok (.iconst 1, 1) := dk_4 (dk_at dksX0_both_2 19 rfl rfl)
theorem dX0_both_64 : decode cX0_both 64 = .ok (.aload_n 0, 1) := dk_42 (dk_at dksX0_both_2 20 rfl rfl)
theorem dX0_both_65 : decode cX0_both 65 = .ok (.getfield 21, 3) := dk_180 0 21 (dk_at dksX0_both_2 21 rfl rfl)
theorem dX0_both_68 : decode cX0_both 68 = .ok (.getfield 86, 3) := dk_180 0 86 (dk_at dksX0_both_3 0 rfl rfl)
theorem dX0_both_71 : decode cX0_both 71 = .ok (.aload_n 0, 1) := dk_42 (dk_at dksX0_both_3 3 rfl rfl)
theorem dX0_both_72 : decode cX0_both 72 = .ok (.getfield 57, 3) := dk_180 0 57 (dk_at dksX0_both_3 4 rfl rfl)
theorem dX0_both_75 : decode cX0_both 75 = .ok (.iload 5, 2) := dk_21 5 (dk_at dksX0_both_3 7 rfl rfl)
theorem dX0_both_77 : decode cX0_both 77 = .ok (.iaload, 1) := dk_46 (dk_at dksX0_both_3 9 rfl rfl)
theorem dX0_both_78 : decode cX0_both 78 = .ok (.aaload, 1) := dk_50 (dk_at dksX0_both_3 10 rfl rfl)
theorem dX0_both_79 : decode cX0_both 79 = .ok (.iconst 4, 1) := dk_7 (dk_at dksX0_both_3 11 rfl rfl)
theorem dX0_both_80 : decode cX0_both 80 = .ok (.iaload, 1) := dk_46 (dk_at dksX0_both_3 12 rfl rfl)
theorem dX0_both_81 : decode cX0_both 81 = .ok (.ishl, 1) := dk_120 (dk_at dksX0_both_3 13 rfl rfl)
theorem dX0_both_82 : decode cX0_both 82 = .ok (.istore 6, 2) := dk_54 6 (dk_at dksX0_both_3 14 rfl rfl)
theorem dX0_both_84 : decode cX0_both 84 = .ok (.iload_n 2, 1) := dk_28 (dk_at dksX0_both_3 16 rfl rfl)
theorem dX0_both_85 : decode cX0_both 85 = .ok (.iload 5, 2) := dk_21 5 (dk_at dksX0_both_3 17 rfl rfl)
theorem dX0_both_87 : decode cX0_both 87 = .ok (.invokestatic 218, 3) := dk_184 0 218 (dk_at dksX0_both_3 19 rfl rfl)
theorem dX0_both_90 : decode cX0_both 90 = .ok (.ifCond .ne 67, 3) := dk_154 0 67 (dk_at dksX0_both_4 0 rfl rfl)
theorem dX0_both_93 : decode cX0_both 93 = .ok (.iload 4, 2) := dk_21 4 (dk_at dksX0_both_4 3 rfl rfl)
theorem dX0_both_95 : decode cX0_both 95 = .ok (.iload 6, 2) := dk_21 6 (dk_at dksX0_both_4 5 rfl rfl)
theorem dX0_both_97 : decode cX0_both 97 = .ok (.iand, 1) := dk_126 (dk_at dksX0_both_4 7 rfl rfl)
theorem dX0_both_98 : decode cX0_both 98 = .ok (.ifCond .eq 6, 3) := dk_153 0 6 (dk_at dksX0_both_4 8 rfl rfl)
theorem dX0_both_101 : decode cX0_both 101 = .ok (.goto 56, 3) := dk_167 0 56 (dk_at dksX0_both_4 11 rfl rfl)
theorem dX0_both_104 : decode cX0_both 104 = .ok (.iload 4, 2) := dk_21 4 (dk_at dksX0_both_4 14 rfl rfl)
theorem dX0_both_106 : decode cX0_both 106 = .ok (.iload 6, 2) := dk_21 6 (dk_at dksX0_both_4 16 rfl rfl)
theorem dX0_both_108 : decode cX0_both 108 = .ok (.ior, 1) := dk_128 (dk_at dksX0_both_4 18 rfl rfl)
theorem dX0_both_109 : decode cX0_both 109 = .ok (.istore 4, 2) := dk_54 4 (dk_at dksX0_both_4 19 rfl rfl)
theorem dX0_both_111 : decode cX0_both 111 = .ok (.aload_n 0, 1) := dk_42 (dk_at dksX0_both_4 21 rfl rfl)
theorem dX0_both_112 : decode cX0_both 112 = .ok (.getfield 69, 3) := dk_180 0 69 (dk_at dksX0_both_5 0 rfl rfl)
theorem dX0_both_115 : decode cX0_both 115 = .ok (.iload 5, 2) := dk_21 5 (dk_at dksX0_both_5 3 rfl rfl)
theorem dX0_both_117 : decode cX0_both 117 = .ok (.aload_n 0, 1) := dk_42 (dk_at dksX0_both_5 5 rfl rfl)
theorem dX0_both_118 : decode cX0_both 118 = .ok (.iload 5, 2) := dk_21 5 (dk_at dksX0_both_5 6 rfl rfl)
theorem dX0_both_120 : decode cX0_both 120 = .ok (.iload_n 2, 1) := dk_28 (dk_at dksX0_both_5 8 rfl rfl)
theorem dX0_both_121 : decode cX0_both 121 = .ok (.invokevirtual 377, 3) := dk_182 1 121 (dk_at dksX0_both_5 9 rfl rfl)
theorem dX0_both_124 : decode cX0_both 124 = .ok (.iastore, 1) := dk_79 (dk_at dksX0_both_5 12 rfl rfl)
theorem dX0_both_125 : decode cX0_both 125 = .ok (.aload_n 0, 1) := dk_42 (dk_at dksX0_both_5 13 rfl rfl)
theorem dX0_both_126 : decode cX0_both 126 = .ok (.iload_n 1, 1) := dk_27 (dk_at dksX0_both_5 14 rfl rfl)
theorem dX0_both_127 : decode cX0_both 127 = .ok (.iconst 1, 1) := dk_4 (dk_at dksX0_both_5 15 rfl rfl)
theorem dX0_both_128 : decode cX0_both 128 = .ok (.iadd, 1) := dk_96 (dk_at dksX0_both_5 16 rfl rfl)
theorem dX0_both_129 : decode cX0_both 129 = .ok (.iload_n 2, 1) := dk_28 (dk_at dksX0_both_5 17 rfl rfl)
theorem dX0_both_130 : decode cX0_both 130 = .ok (.iconst 1, 1) := dk_4 (dk_at dksX0_both_5 18 rfl rfl)
theorem dX0_both_131 : decode cX0_both 131 = .ok (.iload 5, 2) := dk_21 5 (dk_at dksX0_both_5 19 rfl rfl)
theorem dX0_both_133 : decode cX0_both 133 = .ok (.ishl, 1) := dk_120 (dk_at dksX0_both_5 21 rfl rfl)
theorem dX0_both_134 : decode cX0_both 134 = .ok (.ior, 1) := dk_128 (dk_at dksX0_both_5 22 rfl rfl)
theorem dX0_both_135 : decode cX0_both 135 = .ok (.iload_n 3, 1) := dk_29 (dk_at dksX0_both_5 23 rfl rfl)
theorem dX0_both_136 : decode cX0_both 136 = .ok (.aload_n 0, 1) := dk_42 (dk_at dksX0_both_6 0 rfl rfl)
theorem dX0_both_137 : decode cX0_both 137 = .ok (.getfield 69, 3) := dk_180 0 69 (dk_at dksX0_both_6 1 rfl rfl)
theorem dX0_both_140 : decode cX0_both 140 = .ok (.iload 5, 2) := dk_21 5 (dk_at dksX0_both_6 4 rfl rfl)
theorem dX0_both_142 : decode cX0_both 142 = .ok (.iaload, 1) := dk_46 (dk_at dksX0_both_6 6 rfl rfl)
theorem dX0_both_143 : decode cX0_both 143 = .ok (.aload_n 0, 1) := dk_42 (dk_at dksX0_both_6 7 rfl rfl)
theorem dX0_both_144 : decode cX0_both 144 = .ok (.getfield 60, 3) := dk_180 0 60 (dk_at dksX0_both_6 8 rfl rfl)
theorem dX0_both_147 : decode cX0_both 147 = .ok (.iload 5, 2) := dk_21 5 (dk_at dksX0_both_6 11 rfl rfl)
theorem dX0_both_149 : decode cX0_both 149 = .ok (.iaload, 1) := dk_46 (dk_at dksX0_both_6 13 rfl rfl)
theorem dX0_both_150 : decode cX0_both 150 = .ok (.iadd, 1) := dk_96 (dk_at dksX0_both_6 14 rfl rfl)
theorem dX0_both_151 : decode cX0_both 151 = .ok (.invokestatic 143, 3) := dk_184 0 143 (dk_at dksX0_both_6 15 rfl rfl)
theorem dX0_both_154 : decode cX0_both 154 = .ok (.invokevirtual 380, 3) := dk_182 1 124 (dk_at dksX0_both_6 18 rfl rfl)
theorem dX0_both_157 : decode cX0_both 157 = .ok (.iinc 5 1, 3) := dk_132 5 1 (dk_at dksX0_both_6 21 rfl rfl)
theorem dX0_both_160 : decode cX0_both 160 = .ok (.goto (-106), 3) := dk_167 255 150 (dk_at dksX0_both_7 0 rfl rfl)
theorem dX0_both_163 : decode cX0_both 163 = .ok (.return_, 1) := dk_177 (dk_at dksX0_both_7 3 rfl rfl)
abbrev cX0_beginOf : ByteArray := prog_1_method_75_code
def yX0_beginOf : MethodName := ⟨RX0, "beginOf", "(II)I"⟩
def dkwX0_beginOf_4 : List UInt8 := [21, 4, 46, 96, 184, 0, 143, 167, 0, 4, 29, 62, 132, 4, 1, 167, 255, 153, 29, 172]
abbrev dktX0_beginOf_4 : List UInt8 := dkwX0_beginOf_4 ++ []
def dkwX0_beginOf_3 : List UInt8 := [167, 0, 4, 3, 54, 5, 21, 5, 153, 0, 25, 29, 42, 180, 0, 69, 21, 4, 46, 42, 180, 0, 60]
abbrev dktX0_beginOf_3 : List UInt8 := dkwX0_beginOf_3 ++ dktX0_beginOf_4
def dkwX0_beginOf_2 : List UInt8 := [180, 0, 57, 27, 46, 50, 7, 46, 159, 0, 13, 42, 27, 21, 4, 182, 1, 118, 153, 0, 7, 4]
abbrev dktX0_beginOf_2 : List UInt8 := dkwX0_beginOf_2 ++ dktX0_beginOf_3
def dkwX0_beginOf_1 : List UInt8 := [180, 0, 21, 180, 0, 86, 42, 180, 0, 57, 21, 4, 46, 50, 7, 46, 42, 180, 0, 21, 180, 0, 86, 42]
abbrev dktX0_beginOf_1 : List UInt8 := dkwX0_beginOf_1 ++ dktX0_beginOf_2
def dkwX0_beginOf_0 : List UInt8 := [3, 62, 3, 54, 4, 21, 4, 42, 180, 1, 105, 162, 0, 100, 28, 21, 4, 184, 0, 218, 153, 0, 53, 42]
abbrev dktX0_beginOf_0 : List UInt8 := dkwX0_beginOf_0 ++ dktX0_beginOf_1
theorem dksX0_beginOf_0 : cX0_beginOf.data.toList.drop 0 = dktX0_beginOf_0 := by decide +kernel
theorem dksX0_beginOf_1 : cX0_beginOf.data.toList.drop 24 = dktX0_beginOf_1 := dk_seg dksX0_beginOf_0 24 rfl rfl
theorem dksX0_beginOf_2 : cX0_beginOf.data.toList.drop 48 = dktX0_beginOf_2 := dk_seg dksX0_beginOf_1 24 rfl rfl
theorem dksX0_beginOf_3 : cX0_beginOf.data.toList.drop 70 = dktX0_beginOf_3 := dk_seg dksX0_beginOf_2 22 rfl rfl
theorem dksX0_beginOf_4 : cX0_beginOf.data.toList.drop 93 = dktX0_beginOf_4 := dk_seg dksX0_beginOf_3 23 rfl rfl
theorem dX0_beginOf_0 : decode cX0_beginOf 0 = .ok (.iconst 0, 1) := dk_3 (dk_at dksX0_beginOf_0 0 rfl rfl)
theorem dX0_beginOf_1 : decode cX0_beginOf 1 = .ok (.istore_n 3, 1) := dk_62 (dk_at dksX0_beginOf_0 1 rfl rfl)
theorem dX0_beginOf_2 : decode cX0_beginOf 2 = .ok (.iconst 0, 1) := dk_3 (dk_at dksX0_beginOf_0 2 rfl rfl)
theorem dX0_beginOf_3 : decode cX0_beginOf 3 = .ok (.istore 4, 2) := dk_54 4 (dk_at dksX0_beginOf_0 3 rfl rfl)
theorem dX0_beginOf_5 : decode cX0_beginOf 5 = .ok (.iload 4, 2) := dk_21 4 (dk_at dksX0_beginOf_0 5 rfl rfl)
theorem dX0_beginOf_7 : decode cX0_beginOf 7 = .ok (.aload_n 0, 1) := dk_42 (dk_at dksX0_beginOf_0 7 rfl rfl)
theorem dX0_beginOf_8 : decode cX0_beginOf 8 = .ok (.getfield 361, 3) := dk_180 1 105 (dk_at dksX0_beginOf_0 8 rfl rfl)
theorem dX0_beginOf_11 : decode cX0_beginOf 11 = .ok (.if_icmp .ge 100, 3) := dk_162 0 100 (dk_at dksX0_beginOf_0 11 rfl rfl)
theorem dX0_beginOf_14 : decode cX0_beginOf 14 = .ok (.iload_n 2, 1) := dk_28 (dk_at dksX0_beginOf_0 14 rfl rfl)
theorem dX0_beginOf_15 : decode cX0_beginOf 15 = .ok (.iload 4, 2) := dk_21 4 (dk_at dksX0_beginOf_0 15 rfl rfl)
theorem dX0_beginOf_17 : decode cX0_beginOf 17 = .ok (.invokestatic 218, 3) := dk_184 0 218 (dk_at dksX0_beginOf_0 17 rfl rfl)
theorem dX0_beginOf_20 : decode cX0_beginOf 20 = .ok (.ifCond .eq 53, 3) := dk_153 0 53 (dk_at dksX0_beginOf_0 20 rfl rfl)
theorem dX0_beginOf_23 : decode cX0_beginOf 23 = .ok (.aload_n 0, 1) := dk_42 (dk_at dksX0_beginOf_0 23 rfl rfl)
theorem dX0_beginOf_24 : decode cX0_beginOf 24 = .ok (.getfield 21, 3) := dk_180 0 21 (dk_at dksX0_beginOf_1 0 rfl rfl)
theorem dX0_beginOf_27 : decode cX0_beginOf 27 = .ok (.getfield 86, 3) := dk_180 0 86 (dk_at dksX0_beginOf_1 3 rfl rfl)
theorem dX0_beginOf_30 : decode cX0_beginOf 30 = .ok (.aload_n 0, 1) := dk_42 (dk_at dksX0_beginOf_1 6 rfl rfl)
theorem dX0_beginOf_31 : decode cX0_beginOf 31 = .ok (.getfield 57, 3) := dk_180 0 57 (dk_at dksX0_beginOf_1 7 rfl rfl)
theorem dX0_beginOf_34 : decode cX0_beginOf 34 = .ok (.iload 4, 2) := dk_21 4 (dk_at dksX0_beginOf_1 10 rfl rfl)
theorem dX0_beginOf_36 : decode cX0_beginOf 36 = .ok (.iaload, 1) := dk_46 (dk_at dksX0_beginOf_1 12 rfl rfl)
theorem dX0_beginOf_37 : decode cX0_beginOf 37 = .ok (.aaload, 1) := dk_50 (dk_at dksX0_beginOf_1 13 rfl rfl)
theorem dX0_beginOf_38 : decode cX0_beginOf 38 = .ok (.iconst 4, 1) := dk_7 (dk_at dksX0_beginOf_1 14 rfl rfl)
theorem dX0_beginOf_39 : decode cX0_beginOf 39 = .ok (.iaload, 1) := dk_46 (dk_at dksX0_beginOf_1 15 rfl rfl)
theorem dX0_beginOf_40 : decode cX0_beginOf 40 = .ok (.aload_n 0, 1) := dk_42 (dk_at dksX0_beginOf_1 16 rfl rfl)
theorem dX0_beginOf_41 : decode cX0_beginOf 41 = .ok (.getfield 21, 3) := dk_180 0 21 (dk_at dksX0_beginOf_1 17 rfl rfl)
theorem dX0_beginOf_44 : decode cX0_beginOf 44 = .ok (.getfield 86, 3) := dk_180 0 86 (dk_at dksX0_beginOf_1 20 rfl rfl)
theorem dX0_beginOf_47 : decode cX0_beginOf 47 = .ok (.aload_n 0, 1) := dk_42 (dk_at dksX0_beginOf_1 23 rfl rfl)
theorem dX0_beginOf_48 : decode cX0_beginOf 48 = .ok (.getfield 57, 3) := dk_180 0 57 (dk_at dksX0_beginOf_2 0 rfl rfl)
theorem dX0_beginOf_51 : decode cX0_beginOf 51 = .ok (.iload_n 1, 1) := dk_27 (dk_at dksX0_beginOf_2 3 rfl rfl)
theorem dX0_beginOf_52 : decode cX0_beginOf 52 = .ok (.iaload, 1) := dk_46 (dk_at dksX0_beginOf_2 4 rfl rfl)
theorem dX0_beginOf_53 : decode cX0_beginOf 53 = .ok (.aaload, 1) := dk_50 (dk_at dksX0_beginOf_2 5 rfl rfl)
theorem dX0_beginOf_54 : decode cX0_beginOf 54 = .ok (.iconst 4, 1) := dk_7 (dk_at dksX0_beginOf_2 6 rfl rfl)
theorem dX0_beginOf_55 : decode cX0_beginOf 55 = .ok (.iaload, 1) := dk_46 (dk_at dksX0_beginOf_2 7 rfl rfl)
theorem dX0_beginOf_56 : decode cX0_beginOf 56 = .ok (.if_icmp .eq 13, 3) := dk_159 0 13 (dk_at dksX0_beginOf_2 8 rfl rfl)
theorem dX0_beginOf_59 : decode cX0_beginOf 59 = .ok (.aload_n 0, 1) := dk_42 (dk_at dksX0_beginOf_2 11 rfl rfl)
theorem dX0_beginOf_60 : decode cX0_beginOf 60 = .ok (.iload_n 1, 1) := dk_27 (dk_at dksX0_beginOf_2 12 rfl rfl)
theorem dX0_beginOf_61 : decode cX0_beginOf 61 = .ok (.iload 4, 2) := dk_21 4 (dk_at dksX0_beginOf_2 13 rfl rfl)
theorem dX0_beginOf_63 : decode cX0_beginOf 63 = .ok (.invokevirtual 374, 3) := dk_182 1 118 (dk_at dksX0_beginOf_2 15 rfl rfl)
theorem dX0_beginOf_66 : decode cX0_beginOf 66 = .ok (.ifCond .eq 7, 3) := dk_153 0 7 (dk_at dksX0_beginOf_2 18 rfl rfl)
theorem dX0_beginOf_69 : decode cX0_beginOf 69 = .ok (.iconst 1, 1) := dk_4 (dk_at dksX0_beginOf_2 21 rfl rfl)
theorem dX0_beginOf_70 : decode cX0_beginOf 70 = .ok (.goto 4, 3) := dk_167 0 4 (dk_at dksX0_beginOf_3 0 rfl rfl)
theorem dX0_beginOf_73 : decode cX0_beginOf 73 = .ok (.iconst 0, 1) := dk_3 (dk_at dksX0_beginOf_3 3 rfl rfl)
theorem dX0_beginOf_74 : decode cX0_beginOf 74 = .ok (.istore 5, 2) := dk_54 5 (dk_at dksX0_beginOf_3 4 rfl rfl)
theorem dX0_beginOf_76 : decode cX0_beginOf 76 = .ok (.iload 5, 2) := dk_21 5 (dk_at dksX0_beginOf_3 6 rfl rfl)
theorem dX0_beginOf_78 : decode cX0_beginOf 78 = .ok (.ifCond .eq 25, 3) := dk_153 0 25 (dk_at dksX0_beginOf_3 8 rfl rfl)
theorem dX0_beginOf_81 : decode cX0_beginOf 81 = .ok (.iload_n 3, 1) := dk_29 (dk_at dksX0_beginOf_3 11 rfl rfl)
theorem dX0_beginOf_82 : decode cX0_beginOf 82 = .ok (.aload_n 0, 1) := dk_42 (dk_at dksX0_beginOf_3 12 rfl rfl)
theorem dX0_beginOf_83 : decode cX0_beginOf 83 = .ok (.getfield 69, 3) := dk_180 0 69 (dk_at dksX0_beginOf_3 13 rfl rfl)
theorem dX0_beginOf_86 : decode cX0_beginOf 86 = .ok (.iload 4, 2) := dk_21 4 (dk_at dksX0_beginOf_3 16 rfl rfl)
theorem dX0_beginOf_88 : decode cX0_beginOf 88 = .ok (.iaload, 1) := dk_46 (dk_at dksX0_beginOf_3 18 rfl rfl)
theorem dX0_beginOf_89 : decode cX0_beginOf 89 = .ok (.aload_n 0, 1) := dk_42 (dk_at dksX0_beginOf_3 19 rfl rfl)
theorem dX0_beginOf_90 : decode cX0_beginOf 90 = .ok (.getfield 60, 3) := dk_180 0 60 (dk_at dksX0_beginOf_3 20 rfl rfl)
theorem dX0_beginOf_93 : decode cX0_beginOf 93 = .ok (.iload 4, 2) := dk_21 4 (dk_at dksX0_beginOf_4 0 rfl rfl)
theorem dX0_beginOf_95 : decode cX0_beginOf 95 = .ok (.iaload, 1) := dk_46 (dk_at dksX0_beginOf_4 2 rfl rfl)
theorem dX0_beginOf_96 : decode cX0_beginOf 96 = .ok (.iadd, 1) := dk_96 (dk_at dksX0_beginOf_4 3 rfl rfl)
theorem dX0_beginOf_97 : decode cX0_beginOf 97 = .ok (.invokestatic 143, 3) := dk_184 0 143 (dk_at dksX0_beginOf_4 4 rfl rfl)
theorem dX0_beginOf_100 : decode cX0_beginOf 100 = .ok (.goto 4, 3) := dk_167 0 4 (dk_at dksX0_beginOf_4 7 rfl rfl)
theorem dX0_beginOf_103 : decode cX0_beginOf 103 = .ok (.iload_n 3, 1) := dk_29 (dk_at dksX0_beginOf_4 10 rfl rfl)
theorem dX0_beginOf_104 : decode cX0_beginOf 104 = .ok (.istore_n 3, 1) := dk_62 (dk_at dksX0_beginOf_4 11 rfl rfl)
theorem dX0_beginOf_105 : decode cX0_beginOf 105 = .ok (.iinc 4 1, 3) := dk_132 4 1 (dk_at dksX0_beginOf_4 12 rfl rfl)
theorem dX0_beginOf_108 : decode cX0_beginOf 108 = .ok (.goto (-103), 3) := dk_167 255 153 (dk_at dksX0_beginOf_4 15 rfl rfl)
theorem dX0_beginOf_111 : decode cX0_beginOf 111 = .ok (.iload_n 3, 1) := dk_29 (dk_at dksX0_beginOf_4 18 rfl rfl)
theorem dX0_beginOf_112 : decode cX0_beginOf 112 = .ok (.ireturn, 1) := dk_172 (dk_at dksX0_beginOf_4 19 rfl rfl)
abbrev cX0_areClose : ByteArray := prog_1_method_74_code
def yX0_areClose : MethodName := ⟨RX0, "areClose", "(II)Z"⟩
def dkwX0_areClose_3 : List UInt8 := [16, 10, 162, 0, 7, 4, 167, 0, 4, 3, 172]
abbrev dktX0_areClose_3 : List UInt8 := dkwX0_areClose_3 ++ []
def dkwX0_areClose_2 : List UInt8 := [50, 4, 46, 42, 180, 0, 21, 180, 0, 86, 42, 180, 0, 57, 28, 46, 50, 4, 46, 100, 184, 0, 197]
abbrev dktX0_areClose_2 : List UInt8 := dkwX0_areClose_2 ++ dktX0_areClose_3
def dkwX0_areClose_1 : List UInt8 := [180, 0, 57, 28, 46, 50, 7, 46, 159, 0, 48, 42, 180, 0, 21, 180, 0, 86, 42, 180, 0, 57, 27, 46]
abbrev dktX0_areClose_1 : List UInt8 := dkwX0_areClose_1 ++ dktX0_areClose_2
def dkwX0_areClose_0 : List UInt8 := [42, 180, 0, 21, 180, 0, 86, 42, 180, 0, 57, 27, 46, 50, 7, 46, 42, 180, 0, 21, 180, 0, 86, 42]
abbrev dktX0_areClose_0 : List UInt8 := dkwX0_areClose_0 ++ dktX0_areClose_1
theorem dksX0_areClose_0 : cX0_areClose.data.toList.drop 0 = dktX0_areClose_0 := by decide +kernel
theorem dksX0_areClose_1 : cX0_areClose.data.toList.drop 24 = dktX0_areClose_1 := dk_seg dksX0_areClose_0 24 rfl rfl
theorem dksX0_areClose_2 : cX0_areClose.data.toList.drop 48 = dktX0_areClose_2 := dk_seg dksX0_areClose_1 24 rfl rfl
theorem dksX0_areClose_3 : cX0_areClose.data.toList.drop 71 = dktX0_areClose_3 := dk_seg dksX0_areClose_2 23 rfl rfl
theorem dX0_areClose_0 : decode cX0_areClose 0 = .ok (.aload_n 0, 1) := dk_42 (dk_at dksX0_areClose_0 0 rfl rfl)
theorem dX0_areClose_1 : decode cX0_areClose 1 = .ok (.getfield 21, 3) := dk_180 0 21 (dk_at dksX0_areClose_0 1 rfl rfl)
theorem dX0_areClose_4 : decode cX0_areClose 4 = .ok (.getfield 86, 3) := dk_180 0 86 (dk_at dksX0_areClose_0 4 rfl rfl)
theorem dX0_areClose_7 : decode cX0_areClose 7 = .ok (.aload_n 0, 1) := dk_42 (dk_at dksX0_areClose_0 7 rfl rfl)
theorem dX0_areClose_8 : decode cX0_areClose 8 = .ok (.getfield 57, 3) := dk_180 0 57 (dk_at dksX0_areClose_0 8 rfl rfl)
theorem dX0_areClose_11 : decode cX0_areClose 11 = .ok (.iload_n 1, 1) := dk_27 (dk_at dksX0_areClose_0 11 rfl rfl)
theorem dX0_areClose_12 : decode cX0_areClose 12 = .ok (.iaload, 1) := dk_46 (dk_at dksX0_areClose_0 12 rfl rfl)
theorem dX0_areClose_13 : decode cX0_areClose 13 = .ok (.aaload, 1) := dk_50 (dk_at dksX0_areClose_0 13 rfl rfl)
theorem dX0_areClose_14 : decode cX0_areClose 14 = .ok (.iconst 4, 1) := dk_7 (dk_at dksX0_areClose_0 14 rfl rfl)
theorem dX0_areClose_15 : decode cX0_areClose 15 = .ok (.iaload, 1) := dk_46 (dk_at dksX0_areClose_0 15 rfl rfl)
theorem dX0_areClose_16 : decode cX0_areClose 16 = .ok (.aload_n 0, 1) := dk_42 (dk_at dksX0_areClose_0 16 rfl rfl)
theorem dX0_areClose_17 : decode cX0_areClose 17 = .ok (.getfield 21, 3) := dk_180 0 21 (dk_at dksX0_areClose_0 17 rfl rfl)
theorem dX0_areClose_20 : decode cX0_areClose 20 = .ok (.getfield 86, 3) := dk_180 0 86 (dk_at dksX0_areClose_0 20 rfl rfl)
theorem dX0_areClose_23 : decode cX0_areClose 23 = .ok (.aload_n 0, 1) := dk_42 (dk_at dksX0_areClose_0 23 rfl rfl)
theorem dX0_areClose_24 : decode cX0_areClose 24 = .ok (.getfield 57, 3) := dk_180 0 57 (dk_at dksX0_areClose_1 0 rfl rfl)
theorem dX0_areClose_27 : decode cX0_areClose 27 = .ok (.iload_n 2, 1) := dk_28 (dk_at dksX0_areClose_1 3 rfl rfl)
theorem dX0_areClose_28 : decode cX0_areClose 28 = .ok (.iaload, 1) := dk_46 (dk_at dksX0_areClose_1 4 rfl rfl)
theorem dX0_areClose_29 : decode cX0_areClose 29 = .ok (.aaload, 1) := dk_50 (dk_at dksX0_areClose_1 5 rfl rfl)
theorem dX0_areClose_30 : decode cX0_areClose 30 = .ok (.iconst 4, 1) := dk_7 (dk_at dksX0_areClose_1 6 rfl rfl)
theorem dX0_areClose_31 : decode cX0_areClose 31 = .ok (.iaload, 1) := dk_46 (dk_at dksX0_areClose_1 7 rfl rfl)
theorem dX0_areClose_32 : decode cX0_areClose 32 = .ok (.if_icmp .eq 48, 3) := dk_159 0 48 (dk_at dksX0_areClose_1 8 rfl rfl)
theorem dX0_areClose_35 : decode cX0_areClose 35 = .ok (.aload_n 0, 1) := dk_42 (dk_at dksX0_areClose_1 11 rfl rfl)
theorem dX0_areClose_36 : decode cX0_areClose 36 = .ok (.getfield 21, 3) := dk_180 0 21 (dk_at dksX0_areClose_1 12 rfl rfl)
theorem dX0_areClose_39 : decode cX0_areClose 39 = .ok (.getfield 86, 3) := dk_180 0 86 (dk_at dksX0_areClose_1 15 rfl rfl)
theorem dX0_areClose_42 : decode cX0_areClose 42 = .ok (.aload_n 0, 1) := dk_42 (dk_at dksX0_areClose_1 18 rfl rfl)
theorem dX0_areClose_43 : decode cX0_areClose 43 = .ok (.getfield 57, 3) := dk_180 0 57 (dk_at dksX0_areClose_1 19 rfl rfl)
theorem dX0_areClose_46 : decode cX0_areClose 46 = .ok (.iload_n 1, 1) := dk_27 (dk_at dksX0_areClose_1 22 rfl rfl)
theorem dX0_areClose_47 : decode cX0_areClose 47 = .ok (.iaload, 1) := dk_46 (dk_at dksX0_areClose_1 23 rfl rfl)
theorem dX0_areClose_48 : decode cX0_areClose 48 = .ok (.aaload, 1) := dk_50 (dk_at dksX0_areClose_2 0 rfl rfl)
theorem dX0_areClose_49 : decode cX0_areClose 49 = .ok (.iconst 1, 1) := dk_4 (dk_at dksX0_areClose_2 1 rfl rfl)
theorem dX0_areClose_50 : decode cX0_areClose 50 = .ok (.iaload, 1) := dk_46 (dk_at dksX0_areClose_2 2 rfl rfl)
theorem dX0_areClose_51 : decode cX0_areClose 51 = .ok (.aload_n 0, 1) := dk_42 (dk_at dksX0_areClose_2 3 rfl rfl)
theorem dX0_areClose_52 : decode cX0_areClose 52 = .ok (.getfield 21, 3) := dk_180 0 21 (dk_at dksX0_areClose_2 4 rfl rfl)
theorem dX0_areClose_55 : decode cX0_areClose 55 = .ok (.getfield 86, 3) := dk_180 0 86 (dk_at dksX0_areClose_2 7 rfl rfl)
theorem dX0_areClose_58 : decode cX0_areClose 58 = .ok (.aload_n 0, 1) := dk_42 (dk_at dksX0_areClose_2 10 rfl rfl)
theorem dX0_areClose_59 : decode cX0_areClose 59 = .ok (.getfield 57, 3) := dk_180 0 57 (dk_at dksX0_areClose_2 11 rfl rfl)
theorem dX0_areClose_62 : decode cX0_areClose 62 = .ok (.iload_n 2, 1) := dk_28 (dk_at dksX0_areClose_2 14 rfl rfl)
theorem dX0_areClose_63 : decode cX0_areClose 63 = .ok (.iaload, 1) := dk_46 (dk_at dksX0_areClose_2 15 rfl rfl)
theorem dX0_areClose_64 : decode cX0_areClose 64 = .ok (.aaload, 1) := dk_50 (dk_at dksX0_areClose_2 16 rfl rfl)
theorem dX0_areClose_65 : decode cX0_areClose 65 = .ok (.iconst 1, 1) := dk_4 (dk_at dksX0_areClose_2 17 rfl rfl)
theorem dX0_areClose_66 : decode cX0_areClose 66 = .ok (.iaload, 1) := dk_46 (dk_at dksX0_areClose_2 18 rfl rfl)
theorem dX0_areClose_67 : decode cX0_areClose 67 = .ok (.isub, 1) := dk_100 (dk_at dksX0_areClose_2 19 rfl rfl)
theorem dX0_areClose_68 : decode cX0_areClose 68 = .ok (.invokestatic 197, 3) := dk_184 0 197 (dk_at dksX0_areClose_2 20 rfl rfl)
theorem dX0_areClose_71 : decode cX0_areClose 71 = .ok (.bipush 10, 2) := dk_16 10 (dk_at dksX0_areClose_3 0 rfl rfl)
theorem dX0_areClose_73 : decode cX0_areClose 73 = .ok (.if_icmp .ge 7, 3) := dk_162 0 7 (dk_at dksX0_areClose_3 2 rfl rfl)
theorem dX0_areClose_76 : decode cX0_areClose 76 = .ok (.iconst 1, 1) := dk_4 (dk_at dksX0_areClose_3 5 rfl rfl)
theorem dX0_areClose_77 : decode cX0_areClose 77 = .ok (.goto 4, 3) := dk_167 0 4 (dk_at dksX0_areClose_3 6 rfl rfl)
theorem dX0_areClose_80 : decode cX0_areClose 80 = .ok (.iconst 0, 1) := dk_3 (dk_at dksX0_areClose_3 9 rfl rfl)
theorem dX0_areClose_81 : decode cX0_areClose 81 = .ok (.ireturn, 1) := dk_172 (dk_at dksX0_areClose_3 10 rfl rfl)
abbrev cX0_said : ByteArray := prog_1_method_78_code
def yX0_said : MethodName := ⟨RX0, "said", "(IZ)I"⟩
def dkwX0_said_4 : List UInt8 := [180, 0, 79, 8, 92, 46, 4, 96, 79, 42, 180, 0, 21, 180, 0, 79, 8, 46, 172]
abbrev dktX0_said_4 : List UInt8 := dkwX0_said_4 ++ []
def dkwX0_said_3 : List UInt8 := [180, 0, 21, 180, 0, 79, 8, 46, 50, 4, 28, 153, 0, 7, 4, 167, 0, 4, 3, 79, 42, 180, 0, 21]
abbrev dktX0_said_3 : List UInt8 := dkwX0_said_3 ++ dktX0_said_4
def dkwX0_said_2 : List UInt8 := [180, 1, 128, 42, 180, 0, 21, 180, 0, 79, 8, 46, 50, 3, 27, 79, 42, 180, 0, 21, 180, 1, 128, 42]
abbrev dktX0_said_2 : List UInt8 := dkwX0_said_2 ++ dktX0_said_3
def dkwX0_said_1 : List UInt8 := [153, 0, 17, 42, 180, 0, 21, 180, 0, 79, 8, 46, 16, 8, 160, 0, 6, 16, 254, 172, 42, 180, 0, 21]
abbrev dktX0_said_1 : List UInt8 := dkwX0_said_1 ++ dktX0_said_2
def dkwX0_said_0 : List UInt8 := [27, 2, 160, 0, 15, 42, 180, 0, 21, 180, 0, 79, 8, 3, 79, 3, 172, 27, 3, 16, 10, 184, 0, 82]
abbrev dktX0_said_0 : List UInt8 := dkwX0_said_0 ++ dktX0_said_1
theorem dksX0_said_0 : cX0_said.data.toList.drop 0 = dktX0_said_0 := by decide +kernel
theorem dksX0_said_1 : cX0_said.data.toList.drop 24 = dktX0_said_1 := dk_seg dksX0_said_0 24 rfl rfl
theorem dksX0_said_2 : cX0_said.data.toList.drop 48 = dktX0_said_2 := dk_seg dksX0_said_1 24 rfl rfl
theorem dksX0_said_3 : cX0_said.data.toList.drop 72 = dktX0_said_3 := dk_seg dksX0_said_2 24 rfl rfl
theorem dksX0_said_4 : cX0_said.data.toList.drop 96 = dktX0_said_4 := dk_seg dksX0_said_3 24 rfl rfl
theorem dX0_said_0 : decode cX0_said 0 = .ok (.iload_n 1, 1) := dk_27 (dk_at dksX0_said_0 0 rfl rfl)
theorem dX0_said_1 : decode cX0_said 1 = .ok (.iconst (-1), 1) := dk_2 (dk_at dksX0_said_0 1 rfl rfl)
theorem dX0_said_2 : decode cX0_said 2 = .ok (.if_icmp .ne 15, 3) := dk_160 0 15 (dk_at dksX0_said_0 2 rfl rfl)
theorem dX0_said_5 : decode cX0_said 5 = .ok (.aload_n 0, 1) := dk_42 (dk_at dksX0_said_0 5 rfl rfl)
theorem dX0_said_6 : decode cX0_said 6 = .ok (.getfield 21, 3) := dk_180 0 21 (dk_at dksX0_said_0 6 rfl rfl)
theorem dX0_said_9 : decode cX0_said 9 = .ok (.getfield 79, 3) := dk_180 0 79 (dk_at dksX0_said_0 9 rfl rfl)
theorem dX0_said_12 : decode cX0_said 12 = .ok (.iconst 5, 1) := dk_8 (dk_at dksX0_said_0 12 rfl rfl)
theorem dX0_said_13 : decode cX0_said 13 = .ok (.iconst 0, 1) := dk_3 (dk_at dksX0_said_0 13 rfl rfl)
theorem dX0_said_14 : decode cX0_said 14 = .ok (.iastore, 1) := dk_79 (dk_at dksX0_said_0 14 rfl rfl)
theorem dX0_said_15 : decode cX0_said 15 = .ok (.iconst 0, 1) := dk_3 (dk_at dksX0_said_0 15 rfl rfl)
theorem dX0_said_16 : decode cX0_said 16 = .ok (.ireturn, 1) := dk_172 (dk_at dksX0_said_0 16 rfl rfl)
theorem dX0_said_17 : decode cX0_said 17 = .ok (.iload_n 1, 1) := dk_27 (dk_at dksX0_said_0 17 rfl rfl)
theorem dX0_said_18 : decode cX0_said 18 = .ok (.iconst 0, 1) := dk_3 (dk_at dksX0_said_0 18 rfl rfl)
theorem dX0_said_19 : decode cX0_said 19 = .ok (.bipush 10, 2) := dk_16 10 (dk_at dksX0_said_0 19 rfl rfl)
theorem dX0_said_21 : decode cX0_said 21 = .ok (.invokestatic 82, 3) := dk_184 0 82 (dk_at dksX0_said_0 21 rfl rfl)
theorem dX0_said_24 : decode cX0_said 24 = .ok (.ifCond .eq 17, 3) := dk_153 0 17 (dk_at dksX0_said_1 0 rfl rfl)
theorem dX0_said_27 : decode cX0_said 27 = .ok (.aload_n 0, 1) := dk_42 (dk_at dksX0_said_1 3 rfl rfl)
theorem dX0_said_28 : decode cX0_said 28 = .ok (.getfield 21, 3) := dk_180 0 21 (dk_at dksX0_said_1 4 rfl rfl)
theorem dX0_said_31 : decode cX0_said 31 = .ok (.getfield 79, 3) := dk_180 0 79 (dk_at dksX0_said_1 7 rfl rfl)
theorem dX0_said_34 : decode cX0_said 34 = .ok (.iconst 5, 1) := dk_8 (dk_at dksX0_said_1 10 rfl rfl)
theorem dX0_said_35 : decode cX0_said 35 = .ok (.iaload, 1) := dk_46 (dk_at dksX0_said_1 11 rfl rfl)
theorem dX0_said_36 : decode cX0_said 36 = .ok (.bipush 8, 2) := dk_16 8 (dk_at dksX0_said_1 12 rfl rfl)
theorem dX0_said_38 : decode cX0_said 38 = .ok (.if_icmp .ne 6, 3) := dk_160 0 6 (dk_at dksX0_said_1 14 rfl rfl)
theorem dX0_said_41 : decode cX0_said 41 = .ok (.bipush (-2), 2) := dk_16 254 (dk_at dksX0_said_1 17 rfl rfl)
theorem dX0_said_43 : decode cX0_said 43 = .ok (.ireturn, 1) := dk_172 (dk_at dksX0_said_1 19 rfl rfl)
theorem dX0_said_44 : decode cX0_said 44 = .ok (.aload_n 0, 1) := dk_42 (dk_at dksX0_said_1 20 rfl rfl)
theorem dX0_said_45 : decode cX0_said 45 = .ok (.getfield 21, 3) := dk_180 0 21 (dk_at dksX0_said_1 21 rfl rfl)
theorem dX0_said_48 : decode cX0_said 48 = .ok (.getfield 384, 3) := dk_180 1 128 (dk_at dksX0_said_2 0 rfl rfl)
theorem dX0_said_51 : decode cX0_said 51 = .ok (.aload_n 0, 1) := dk_42 (dk_at dksX0_said_2 3 rfl rfl)
theorem dX0_said_52 : decode cX0_said 52 = .ok (.getfield 21, 3) := dk_180 0 21 (dk_at dksX0_said_2 4 rfl rfl)
theorem dX0_said_55 : decode cX0_said 55 = .ok (.getfield 79, 3) := dk_180 0 79 (dk_at dksX0_said_2 7 rfl rfl)
theorem dX0_said_58 : decode cX0_said 58 = .ok (.iconst 5, 1) := dk_8 (dk_at dksX0_said_2 10 rfl rfl)
theorem dX0_said_59 : decode cX0_said 59 = .ok (.iaload, 1) := dk_46 (dk_at dksX0_said_2 11 rfl rfl)
theorem dX0_said_60 : decode cX0_said 60 = .ok (.aaload, 1) := dk_50 (dk_at dksX0_said_2 12 rfl rfl)
theorem dX0_said_61 : decode cX0_said 61 = .ok (.iconst 0, 1) := dk_3 (dk_at dksX0_said_2 13 rfl rfl)
theorem dX0_said_62 : decode cX0_said 62 = .ok (.iload_n 1, 1) := dk_27 (dk_at dksX0_said_2 14 rfl rfl)
theorem dX0_said_63 : decode cX0_said 63 = .ok (.iastore, 1) := dk_79 (dk_at dksX0_said_2 15 rfl rfl)
theorem dX0_said_64 : decode cX0_said 64 = .ok (.aload_n 0, 1) := dk_42 (dk_at dksX0_said_2 16 rfl rfl)
theorem dX0_said_65 : decode cX0_said 65 = .ok (.getfield 21, 3) := dk_180 0 21 (dk_at dksX0_said_2 17 rfl rfl)
theorem dX0_said_68 : decode cX0_said 68 = .ok (.getfield 384, 3) := dk_180 1 128 (dk_at dksX0_said_2 20 rfl rfl)
theorem dX0_said_71 : decode cX0_said 71 = .ok (.aload_n 0, 1) := dk_42 (dk_at dksX0_said_2 23 rfl rfl)
theorem dX0_said_72 : decode cX0_said 72 = .ok (.getfield 21, 3) := dk_180 0 21 (dk_at dksX0_said_3 0 rfl rfl)
theorem dX0_said_75 : decode cX0_said 75 = .ok (.getfield 79, 3) := dk_180 0 79 (dk_at dksX0_said_3 3 rfl rfl)
theorem dX0_said_78 : decode cX0_said 78 = .ok (.iconst 5, 1) := dk_8 (dk_at dksX0_said_3 6 rfl rfl)
theorem dX0_said_79 : decode cX0_said 79 = .ok (.iaload, 1) := dk_46 (dk_at dksX0_said_3 7 rfl rfl)
theorem dX0_said_80 : decode cX0_said 80 = .ok (.aaload, 1) := dk_50 (dk_at dksX0_said_3 8 rfl rfl)
theorem dX0_said_81 : decode cX0_said 81 = .ok (.iconst 1, 1) := dk_4 (dk_at dksX0_said_3 9 rfl rfl)
theorem dX0_said_82 : decode cX0_said 82 = .ok (.iload_n 2, 1) := dk_28 (dk_at dksX0_said_3 10 rfl rfl)
theorem dX0_said_83 : decode cX0_said 83 = .ok (.ifCond .eq 7, 3) := dk_153 0 7 (dk_at dksX0_said_3 11 rfl rfl)
theorem dX0_said_86 : decode cX0_said 86 = .ok (.iconst 1, 1) := dk_4 (dk_at dksX0_said_3 14 rfl rfl)
theorem dX0_said_87 : decode cX0_said 87 = .ok (.goto 4, 3) := dk_167 0 4 (dk_at dksX0_said_3 15 rfl rfl)
theorem dX0_said_90 : decode cX0_said 90 = .ok (.iconst 0, 1) := dk_3 (dk_at dksX0_said_3 18 rfl rfl)
theorem dX0_said_91 : decode cX0_said 91 = .ok (.iastore, 1) := dk_79 (dk_at dksX0_said_3 19 rfl rfl)
theorem dX0_said_92 : decode cX0_said 92 = .ok (.aload_n 0, 1) := dk_42 (dk_at dksX0_said_3 20 rfl rfl)
theorem dX0_said_93 : decode cX0_said 93 = .ok (.getfield 21, 3) := dk_180 0 21 (dk_at dksX0_said_3 21 rfl rfl)
theorem dX0_said_96 : decode cX0_said 96 = .ok (.getfield 79, 3) := dk_180 0 79 (dk_at dksX0_said_4 0 rfl rfl)
theorem dX0_said_99 : decode cX0_said 99 = .ok (.iconst 5, 1) := dk_8 (dk_at dksX0_said_4 3 rfl rfl)
theorem dX0_said_100 : decode cX0_said 100 = .ok (.dup2, 1) := dk_92 (dk_at dksX0_said_4 4 rfl rfl)
theorem dX0_said_101 : decode cX0_said 101 = .ok (.iaload, 1) := dk_46 (dk_at dksX0_said_4 5 rfl rfl)
theorem dX0_said_102 : decode cX0_said 102 = .ok (.iconst 1, 1) := dk_4 (dk_at dksX0_said_4 6 rfl rfl)
theorem dX0_said_103 : decode cX0_said 103 = .ok (.iadd, 1) := dk_96 (dk_at dksX0_said_4 7 rfl rfl)
theorem dX0_said_104 : decode cX0_said 104 = .ok (.iastore, 1) := dk_79 (dk_at dksX0_said_4 8 rfl rfl)
theorem dX0_said_105 : decode cX0_said 105 = .ok (.aload_n 0, 1) := dk_42 (dk_at dksX0_said_4 9 rfl rfl)
theorem dX0_said_106 : decode cX0_said 106 = .ok (.getfield 21, 3) := dk_180 0 21 (dk_at dksX0_said_4 10 rfl rfl)
theorem dX0_said_109 : decode cX0_said 109 = .ok (.getfield 79, 3) := dk_180 0 79 (dk_at dksX0_said_4 13 rfl rfl)
theorem dX0_said_112 : decode cX0_said 112 = .ok (.iconst 5, 1) := dk_8 (dk_at dksX0_said_4 16 rfl rfl)
theorem dX0_said_113 : decode cX0_said 113 = .ok (.iaload, 1) := dk_46 (dk_at dksX0_said_4 17 rfl rfl)
theorem dX0_said_114 : decode cX0_said 114 = .ok (.ireturn, 1) := dk_172 (dk_at dksX0_said_4 18 rfl rfl)
abbrev cX0_left : ByteArray := prog_1_method_81_code
def yX0_left : MethodName := ⟨RX0, "left", "(Z)J"⟩
def dkwX0_left_1 : List UInt8 := [153, 0, 7, 10, 167, 0, 4, 9, 173, 32, 22, 4, 27, 184, 1, 72, 173]
abbrev dktX0_left_1 : List UInt8 := dkwX0_left_1 ++ []
def dkwX0_left_0 : List UInt8 := [42, 4, 182, 1, 131, 65, 32, 42, 3, 182, 1, 131, 97, 55, 4, 22, 4, 9, 148, 154, 0, 13, 27]
abbrev dktX0_left_0 : List UInt8 := dkwX0_left_0 ++ dktX0_left_1
theorem dksX0_left_0 : cX0_left.data.toList.drop 0 = dktX0_left_0 := by decide +kernel
theorem dksX0_left_1 : cX0_left.data.toList.drop 23 = dktX0_left_1 := dk_seg dksX0_left_0 23 rfl rfl
theorem dX0_left_0 : decode cX0_left 0 = .ok (.aload_n 0, 1) := dk_42 (dk_at dksX0_left_0 0 rfl rfl)
theorem dX0_left_1 : decode cX0_left 1 = .ok (.iconst 1, 1) := dk_4 (dk_at dksX0_left_0 1 rfl rfl)
theorem dX0_left_2 : decode cX0_left 2 = .ok (.invokevirtual 387, 3) := dk_182 1 131 (dk_at dksX0_left_0 2 rfl rfl)
theorem dX0_left_5 : decode cX0_left 5 = .ok (.lstore_n 2, 1) := dk_65 (dk_at dksX0_left_0 5 rfl rfl)
theorem dX0_left_6 : decode cX0_left 6 = .ok (.lload_n 2, 1) := dk_32 (dk_at dksX0_left_0 6 rfl rfl)
theorem dX0_left_7 : decode cX0_left 7 = .ok (.aload_n 0, 1) := dk_42 (dk_at dksX0_left_0 7 rfl rfl)
theorem dX0_left_8 : decode cX0_left 8 = .ok (.iconst 0, 1) := dk_3 (dk_at dksX0_left_0 8 rfl rfl)
theorem dX0_left_9 : decode cX0_left 9 = .ok (.invokevirtual 387, 3) := dk_182 1 131 (dk_at dksX0_left_0 9 rfl rfl)
theorem dX0_left_12 : decode cX0_left 12 = .ok (.ladd, 1) := dk_97 (dk_at dksX0_left_0 12 rfl rfl)
theorem dX0_left_13 : decode cX0_left 13 = .ok (.lstore 4, 2) := dk_55 4 (dk_at dksX0_left_0 13 rfl rfl)
theorem dX0_left_15 : decode cX0_left 15 = .ok (.lload 4, 2) := dk_22 4 (dk_at dksX0_left_0 15 rfl rfl)
theorem dX0_left_17 : decode cX0_left 17 = .ok (.lconst 0, 1) := dk_9 (dk_at dksX0_left_0 17 rfl rfl)
theorem dX0_left_18 : decode cX0_left 18 = .ok (.lcmp, 1) := dk_148 (dk_at dksX0_left_0 18 rfl rfl)
theorem dX0_left_19 : decode cX0_left 19 = .ok (.ifCond .ne 13, 3) := dk_154 0 13 (dk_at dksX0_left_0 19 rfl rfl)
theorem dX0_left_22 : decode cX0_left 22 = .ok (.iload_n 1, 1) := dk_27 (dk_at dksX0_left_0 22 rfl rfl)
theorem dX0_left_23 : decode cX0_left 23 = .ok (.ifCond .eq 7, 3) := dk_153 0 7 (dk_at dksX0_left_1 0 rfl rfl)
theorem dX0_left_26 : decode cX0_left 26 = .ok (.lconst 1, 1) := dk_10 (dk_at dksX0_left_1 3 rfl rfl)
theorem dX0_left_27 : decode cX0_left 27 = .ok (.goto 4, 3) := dk_167 0 4 (dk_at dksX0_left_1 4 rfl rfl)
theorem dX0_left_30 : decode cX0_left 30 = .ok (.lconst 0, 1) := dk_9 (dk_at dksX0_left_1 7 rfl rfl)
theorem dX0_left_31 : decode cX0_left 31 = .ok (.lreturn, 1) := dk_173 (dk_at dksX0_left_1 8 rfl rfl)
theorem dX0_left_32 : decode cX0_left 32 = .ok (.lload_n 2, 1) := dk_32 (dk_at dksX0_left_1 9 rfl rfl)
theorem dX0_left_33 : decode cX0_left 33 = .ok (.lload 4, 2) := dk_22 4 (dk_at dksX0_left_1 10 rfl rfl)
theorem dX0_left_35 : decode cX0_left 35 = .ok (.iload_n 1, 1) := dk_27 (dk_at dksX0_left_1 12 rfl rfl)
theorem dX0_left_36 : decode cX0_left 36 = .ok (.invokestatic 328, 3) := dk_184 1 72 (dk_at dksX0_left_1 13 rfl rfl)
theorem dX0_left_39 : decode cX0_left 39 = .ok (.lreturn, 1) := dk_173 (dk_at dksX0_left_1 16 rfl rfl)
abbrev cX0_productOf : ByteArray := prog_1_method_80_code
def yX0_productOf : MethodName := ⟨RX0, "productOf", "(I)J"⟩
def dkwX0_productOf_3 : List UInt8 := [132, 4, 1, 167, 255, 188, 32, 173]
abbrev dktX0_productOf_3 : List UInt8 := dkwX0_productOf_3 ++ []
def dkwX0_productOf_2 : List UInt8 := [133, 167, 0, 19, 16, 10, 42, 180, 0, 21, 180, 1, 128, 21, 4, 50, 3, 46, 100, 133, 105, 65]
abbrev dktX0_productOf_2 : List UInt8 := dkwX0_productOf_2 ++ dktX0_productOf_3
def dkwX0_productOf_1 : List UInt8 := [180, 1, 128, 21, 4, 50, 4, 46, 27, 160, 0, 19, 42, 180, 0, 21, 180, 1, 128, 21, 4, 50, 3, 46]
abbrev dktX0_productOf_1 : List UInt8 := dkwX0_productOf_1 ++ dktX0_productOf_2
def dkwX0_productOf_0 : List UInt8 := [10, 65, 3, 54, 4, 21, 4, 42, 180, 0, 21, 180, 0, 79, 8, 46, 162, 0, 60, 32, 42, 180, 0, 21]
abbrev dktX0_productOf_0 : List UInt8 := dkwX0_productOf_0 ++ dktX0_productOf_1
theorem dksX0_productOf_0 : cX0_productOf.data.toList.drop 0 = dktX0_productOf_0 := by decide +kernel
theorem dksX0_productOf_1 : cX0_productOf.data.toList.drop 24 = dktX0_productOf_1 := dk_seg dksX0_productOf_0 24 rfl rfl
theorem dksX0_productOf_2 : cX0_productOf.data.toList.drop 48 = dktX0_productOf_2 := dk_seg dksX0_productOf_1 24 rfl rfl
theorem dksX0_productOf_3 : cX0_productOf.data.toList.drop 70 = dktX0_productOf_3 := dk_seg dksX0_productOf_2 22 rfl rfl
theorem dX0_productOf_0 : decode cX0_productOf 0 = .ok (.lconst 1, 1) := dk_10 (dk_at dksX0_productOf_0 0 rfl rfl)
theorem dX0_productOf_1 : decode cX0_productOf 1 = .ok (.lstore_n 2, 1) := dk_65 (dk_at dksX0_productOf_0 1 rfl rfl)
theorem dX0_productOf_2 : decode cX0_productOf 2 = .ok (.iconst 0, 1) := dk_3 (dk_at dksX0_productOf_0 2 rfl rfl)
theorem dX0_productOf_3 : decode cX0_productOf 3 = .ok (.istore 4, 2) := dk_54 4 (dk_at dksX0_productOf_0 3 rfl rfl)
theorem dX0_productOf_5 : decode cX0_productOf 5 = .ok (.iload 4, 2) := dk_21 4 (dk_at dksX0_productOf_0 5 rfl rfl)
theorem dX0_productOf_7 : decode cX0_productOf 7 = .ok (.aload_n 0, 1) := dk_42 (dk_at dksX0_productOf_0 7 rfl rfl)
theorem dX0_productOf_8 : decode cX0_productOf 8 = .ok (.getfield 21, 3) := dk_180 0 21 (dk_at dksX0_productOf_0 8 rfl rfl)
theorem dX0_productOf_11 : decode cX0_productOf 11 = .ok (.getfield 79, 3) := dk_180 0 79 (dk_at dksX0_productOf_0 11 rfl rfl)
theorem dX0_productOf_14 : decode cX0_productOf 14 = .ok (.iconst 5, 1) := dk_8 (dk_at dksX0_productOf_0 14 rfl rfl)
theorem dX0_productOf_15 : decode cX0_productOf 15 = .ok (.iaload, 1) := dk_46 (dk_at dksX0_productOf_0 15 rfl rfl)
theorem dX0_productOf_16 : decode cX0_productOf 16 = .ok (.if_icmp .ge 60, 3) := dk_162 0 60 (dk_at dksX0_productOf_0 16 rfl rfl)
theorem dX0_productOf_19 : decode cX0_productOf 19 = .ok (.lload_n 2, 1) := dk_32 (dk_at dksX0_productOf_0 19 rfl rfl)
theorem dX0_productOf_20 : decode cX0_productOf 20 = .ok (.aload_n 0, 1) := dk_42 (dk_at dksX0_productOf_0 20 rfl rfl)
theorem dX0_productOf_21 : decode cX0_productOf 21 = .ok (.getfield 21, 3) := dk_180 0 21 (dk_at dksX0_productOf_0 21 rfl rfl)
theorem dX0_productOf_24 : decode cX0_productOf 24 = .ok (.getfield 384, 3) := dk_180 1 128 (dk_at dksX0_productOf_1 0 rfl rfl)
theorem dX0_productOf_27 : decode cX0_productOf 27 = .ok (.iload 4, 2) := dk_21 4 (dk_at dksX0_productOf_1 3 rfl rfl)
theorem dX0_productOf_29 : decode cX0_productOf 29 = .ok (.aaload, 1) := dk_50 (dk_at dksX0_productOf_1 5 rfl rfl)
theorem dX0_productOf_30 : decode cX0_productOf 30 = .ok (.iconst 1, 1) := dk_4 (dk_at dksX0_productOf_1 6 rfl rfl)
theorem dX0_productOf_31 : decode cX0_productOf 31 = .ok (.iaload, 1) := dk_46 (dk_at dksX0_productOf_1 7 rfl rfl)
theorem dX0_productOf_32 : decode cX0_productOf 32 = .ok (.iload_n 1, 1) := dk_27 (dk_at dksX0_productOf_1 8 rfl rfl)
theorem dX0_productOf_33 : decode cX0_productOf 33 = .ok (.if_icmp .ne 19, 3) := dk_160 0 19 (dk_at dksX0_productOf_1 9 rfl rfl)
theorem dX0_productOf_36 : decode cX0_productOf 36 = .ok (.aload_n 0, 1) := dk_42 (dk_at dksX0_productOf_1 12 rfl rfl)
theorem dX0_productOf_37 : decode cX0_productOf 37 = .ok (.getfield 21, 3) := dk_180 0 21 (dk_at dksX0_productOf_1 13 rfl rfl)
theorem dX0_productOf_40 : decode cX0_productOf 40 = .ok (.getfield 384, 3) := dk_180 1 128 (dk_at dksX0_productOf_1 16 rfl rfl)
theorem dX0_productOf_43 : decode cX0_productOf 43 = .ok (.iload 4, 2) := dk_21 4 (dk_at dksX0_productOf_1 19 rfl rfl)
theorem dX0_productOf_45 : decode cX0_productOf 45 = .ok (.aaload, 1) := dk_50 (dk_at dksX0_productOf_1 21 rfl rfl)
theorem dX0_productOf_46 : decode cX0_productOf 46 = .ok (.iconst 0, 1) := dk_3 (dk_at dksX0_productOf_1 22 rfl rfl)
theorem dX0_productOf_47 : decode cX0_productOf 47 = .ok (.iaload, 1) := dk_46 (dk_at dksX0_productOf_1 23 rfl rfl)
theorem dX0_productOf_48 : decode cX0_productOf 48 = .ok (.i2l, 1) := dk_133 (dk_at dksX0_productOf_2 0 rfl rfl)
theorem dX0_productOf_49 : decode cX0_productOf 49 = .ok (.goto 19, 3) := dk_167 0 19 (dk_at dksX0_productOf_2 1 rfl rfl)
theorem dX0_productOf_52 : decode cX0_productOf 52 = .ok (.bipush 10, 2) := dk_16 10 (dk_at dksX0_productOf_2 4 rfl rfl)
theorem dX0_productOf_54 : decode cX0_productOf 54 = .ok (.aload_n 0, 1) := dk_42 (dk_at dksX0_productOf_2 6 rfl rfl)
theorem dX0_productOf_55 : decode cX0_productOf 55 = .ok (.getfield 21, 3) := dk_180 0 21 (dk_at dksX0_productOf_2 7 rfl rfl)
theorem dX0_productOf_58 : decode cX0_productOf 58 = .ok (.getfield 384, 3) := dk_180 1 128 (dk_at dksX0_productOf_2 10 rfl rfl)
theorem dX0_productOf_61 : decode cX0_productOf 61 = .ok (.iload 4, 2) := dk_21 4 (dk_at dksX0_productOf_2 13 rfl rfl)
theorem dX0_productOf_63 : decode cX0_productOf 63 = .ok (.aaload, 1) := dk_50 (dk_at dksX0_productOf_2 15 rfl rfl)
theorem dX0_productOf_64 : decode cX0_productOf 64 = .ok (.iconst 0, 1) := dk_3 (dk_at dksX0_productOf_2 16 rfl rfl)
theorem dX0_productOf_65 : decode cX0_productOf 65 = .ok (.iaload, 1) := dk_46 (dk_at dksX0_productOf_2 17 rfl rfl)
theorem dX0_productOf_66 : decode cX0_productOf 66 = .ok (.isub, 1) := dk_100 (dk_at dksX0_productOf_2 18 rfl rfl)
theorem dX0_productOf_67 : decode cX0_productOf 67 = .ok (.i2l, 1) := dk_133 (dk_at dksX0_productOf_2 19 rfl rfl)
theorem dX0_productOf_68 : decode cX0_productOf 68 = .ok (.lmul, 1) := dk_105 (dk_at dksX0_productOf_2 20 rfl rfl)
theorem dX0_productOf_69 : decode cX0_productOf 69 = .ok (.lstore_n 2, 1) := dk_65 (dk_at dksX0_productOf_2 21 rfl rfl)
theorem dX0_productOf_70 : decode cX0_productOf 70 = .ok (.iinc 4 1, 3) := dk_132 4 1 (dk_at dksX0_productOf_3 0 rfl rfl)
theorem dX0_productOf_73 : decode cX0_productOf 73 = .ok (.goto (-68), 3) := dk_167 255 188 (dk_at dksX0_productOf_3 3 rfl rfl)
theorem dX0_productOf_76 : decode cX0_productOf 76 = .ok (.lload_n 2, 1) := dk_32 (dk_at dksX0_productOf_3 6 rfl rfl)
theorem dX0_productOf_77 : decode cX0_productOf 77 = .ok (.lreturn, 1) := dk_173 (dk_at dksX0_productOf_3 7 rfl rfl)
abbrev cX0_landed : ByteArray := prog_1_method_82_code
def yX0_landed : MethodName := ⟨RX0, "landed", "(II)I"⟩
def dkwX0_landed_2 : List UInt8 := [180, 0, 21, 180, 0, 176, 16, 13, 5, 27, 104, 96, 28, 96, 46, 167, 0, 5, 16, 254, 172]
abbrev dktX0_landed_2 : List UInt8 := dkwX0_landed_2 ++ []
def dkwX0_landed_1 : List UInt8 := [180, 0, 176, 16, 12, 46, 4, 100, 184, 0, 82, 153, 0, 31, 28, 3, 4, 184, 0, 82, 153, 0, 22, 42]
abbrev dktX0_landed_1 : List UInt8 := dkwX0_landed_1 ++ dktX0_landed_2
def dkwX0_landed_0 : List UInt8 := [27, 2, 160, 0, 14, 42, 180, 0, 21, 180, 0, 176, 16, 12, 46, 172, 27, 3, 42, 180, 0, 21]
abbrev dktX0_landed_0 : List UInt8 := dkwX0_landed_0 ++ dktX0_landed_1
theorem dksX0_landed_0 : cX0_landed.data.toList.drop 0 = dktX0_landed_0 := by decide +kernel
theorem dksX0_landed_1 : cX0_landed.data.toList.drop 22 = dktX0_landed_1 := dk_seg dksX0_landed_0 22 rfl rfl
theorem dksX0_landed_2 : cX0_landed.data.toList.drop 46 = dktX0_landed_2 := dk_seg dksX0_landed_1 24 rfl rfl
theorem dX0_landed_0 : decode cX0_landed 0 = .ok (.iload_n 1, 1) := dk_27 (dk_at dksX0_landed_0 0 rfl rfl)
theorem dX0_landed_1 : decode cX0_landed 1 = .ok (.iconst (-1), 1) := dk_2 (dk_at dksX0_landed_0 1 rfl rfl)
theorem dX0_landed_2 : decode cX0_landed 2 = .ok (.if_icmp .ne 14, 3) := dk_160 0 14 (dk_at dksX0_landed_0 2 rfl rfl)
theorem dX0_landed_5 : decode cX0_landed 5 = .ok (.aload_n 0, 1) := dk_42 (dk_at dksX0_landed_0 5 rfl rfl)
theorem dX0_landed_6 : decode cX0_landed 6 = .ok (.getfield 21, 3) := dk_180 0 21 (dk_at dksX0_landed_0 6 rfl rfl)
theorem dX0_landed_9 : decode cX0_landed 9 = .ok (.getfield 176, 3) := dk_180 0 176 (dk_at dksX0_landed_0 9 rfl rfl)
theorem dX0_landed_12 : decode cX0_landed 12 = .ok (.bipush 12, 2) := dk_16 12 (dk_at dksX0_landed_0 12 rfl rfl)
theorem dX0_landed_14 : decode cX0_landed 14 = .ok (.iaload, 1) := dk_46 (dk_at dksX0_landed_0 14 rfl rfl)
theorem dX0_landed_15 : decode cX0_landed 15 = .ok (.ireturn, 1) := dk_172 (dk_at dksX0_landed_0 15 rfl rfl)
theorem dX0_landed_16 : decode cX0_landed 16 = .ok (.iload_n 1, 1) := dk_27 (dk_at dksX0_landed_0 16 rfl rfl)
theorem dX0_landed_17 : decode cX0_landed 17 = .ok (.iconst 0, 1) := dk_3 (dk_at dksX0_landed_0 17 rfl rfl)
theorem dX0_landed_18 : decode cX0_landed 18 = .ok (.aload_n 0, 1) := dk_42 (dk_at dksX0_landed_0 18 rfl rfl)
theorem dX0_landed_19 : decode cX0_landed 19 = .ok (.getfield 21, 3) := dk_180 0 21 (dk_at dksX0_landed_0 19 rfl rfl)
theorem dX0_landed_22 : decode cX0_landed 22 = .ok (.getfield 176, 3) := dk_180 0 176 (dk_at dksX0_landed_1 0 rfl rfl)
theorem dX0_landed_25 : decode cX0_landed 25 = .ok (.bipush 12, 2) := dk_16 12 (dk_at dksX0_landed_1 3 rfl rfl)
theorem dX0_landed_27 : decode cX0_landed 27 = .ok (.iaload, 1) := dk_46 (dk_at dksX0_landed_1 5 rfl rfl)
theorem dX0_landed_28 : decode cX0_landed 28 = .ok (.iconst 1, 1) := dk_4 (dk_at dksX0_landed_1 6 rfl rfl)
theorem dX0_landed_29 : decode cX0_landed 29 = .ok (.isub, 1) := dk_100 (dk_at dksX0_landed_1 7 rfl rfl)
theorem dX0_landed_30 : decode cX0_landed 30 = .ok (.invokestatic 82, 3) := dk_184 0 82 (dk_at dksX0_landed_1 8 rfl rfl)
theorem dX0_landed_33 : decode cX0_landed 33 = .ok (.ifCond .eq 31, 3) := dk_153 0 31 (dk_at dksX0_landed_1 11 rfl rfl)
theorem dX0_landed_36 : decode cX0_landed 36 = .ok (.iload_n 2, 1) := dk_28 (dk_at dksX0_landed_1 14 rfl rfl)
theorem dX0_landed_37 : decode cX0_landed 37 = .ok (.iconst 0, 1) := dk_3 (dk_at dksX0_landed_1 15 rfl rfl)
theorem dX0_landed_38 : decode cX0_landed 38 = .ok (.iconst 1, 1) := dk_4 (dk_at dksX0_landed_1 16 rfl rfl)
theorem dX0_landed_39 : decode cX0_landed 39 = .ok (.invokestatic 82, 3) := dk_184 0 82 (dk_at dksX0_landed_1 17 rfl rfl)
theorem dX0_landed_42 : decode cX0_landed 42 = .ok (.ifCond .eq 22, 3) := dk_153 0 22 (dk_at dksX0_landed_1 20 rfl rfl)
theorem dX0_landed_45 : decode cX0_landed 45 = .ok (.aload_n 0, 1) := dk_42 (dk_at dksX0_landed_1 23 rfl rfl)
theorem dX0_landed_46 : decode cX0_landed 46 = .ok (.getfield 21, 3) := dk_180 0 21 (dk_at dksX0_landed_2 0 rfl rfl)
theorem dX0_landed_49 : decode cX0_landed 49 = .ok (.getfield 176, 3) := dk_180 0 176 (dk_at dksX0_landed_2 3 rfl rfl)
theorem dX0_landed_52 : decode cX0_landed 52 = .ok (.bipush 13, 2) := dk_16 13 (dk_at dksX0_landed_2 6 rfl rfl)
theorem dX0_landed_54 : decode cX0_landed 54 = .ok (.iconst 2, 1) := dk_5 (dk_at dksX0_landed_2 8 rfl rfl)
theorem dX0_landed_55 : decode cX0_landed 55 = .ok (.iload_n 1, 1) := dk_27 (dk_at dksX0_landed_2 9 rfl rfl)
theorem dX0_landed_56 : decode cX0_landed 56 = .ok (.imul, 1) := dk_104 (dk_at dksX0_landed_2 10 rfl rfl)
theorem dX0_landed_57 : decode cX0_landed 57 = .ok (.iadd, 1) := dk_96 (dk_at dksX0_landed_2 11 rfl rfl)
theorem dX0_landed_58 : decode cX0_landed 58 = .ok (.iload_n 2, 1) := dk_28 (dk_at dksX0_landed_2 12 rfl rfl)
theorem dX0_landed_59 : decode cX0_landed 59 = .ok (.iadd, 1) := dk_96 (dk_at dksX0_landed_2 13 rfl rfl)
theorem dX0_landed_60 : decode cX0_landed 60 = .ok (.iaload, 1) := dk_46 (dk_at dksX0_landed_2 14 rfl rfl)
theorem dX0_landed_61 : decode cX0_landed 61 = .ok (.goto 5, 3) := dk_167 0 5 (dk_at dksX0_landed_2 15 rfl rfl)
theorem dX0_landed_64 : decode cX0_landed 64 = .ok (.bipush (-2), 2) := dk_16 254 (dk_at dksX0_landed_2 18 rfl rfl)
theorem dX0_landed_66 : decode cX0_landed 66 = .ok (.ireturn, 1) := dk_172 (dk_at dksX0_landed_2 20 rfl rfl)
abbrev cX0_hour : ByteArray := prog_1_method_83_code
def yX0_hour : MethodName := ⟨RX0, "hour", "(I)I"⟩
def dkwX0_hour_3 : List UInt8 := [132, 3, 1, 167, 255, 200, 28, 172]
abbrev dktX0_hour_3 : List UInt8 := dkwX0_hour_3 ++ []
def dkwX0_hour_2 : List UInt8 := [96, 46, 42, 180, 0, 21, 180, 0, 176, 16, 8, 46, 27, 100, 164, 0, 7, 4, 167, 0, 4, 3, 96, 61]
abbrev dktX0_hour_2 : List UInt8 := dkwX0_hour_2 ++ dktX0_hour_3
def dkwX0_hour_1 : List UInt8 := [180, 0, 176, 16, 12, 46, 162, 0, 48, 28, 42, 180, 0, 21, 180, 0, 176, 16, 13, 5, 29, 104, 96, 4]
abbrev dktX0_hour_1 : List UInt8 := dkwX0_hour_1 ++ dktX0_hour_2
def dkwX0_hour_0 : List UInt8 := [27, 4, 17, 39, 15, 184, 0, 82, 154, 0, 5, 2, 172, 3, 61, 3, 62, 29, 42, 180, 0, 21]
abbrev dktX0_hour_0 : List UInt8 := dkwX0_hour_0 ++ dktX0_hour_1
theorem dksX0_hour_0 : cX0_hour.data.toList.drop 0 = dktX0_hour_0 := by decide +kernel
theorem dksX0_hour_1 : cX0_hour.data.toList.drop 22 = dktX0_hour_1 := dk_seg dksX0_hour_0 22 rfl rfl
theorem dksX0_hour_2 : cX0_hour.data.toList.drop 46 = dktX0_hour_2 := dk_seg dksX0_hour_1 24 rfl rfl
theorem dksX0_hour_3 : cX0_hour.data.toList.drop 70 = dktX0_hour_3 := dk_seg dksX0_hour_2 24 rfl rfl
theorem dX0_hour_0 : decode cX0_hour 0 = .ok (.iload_n 1, 1) := dk_27 (dk_at dksX0_hour_0 0 rfl rfl)
theorem dX0_hour_1 : decode cX0_hour 1 = .ok (.iconst 1, 1) := dk_4 (dk_at dksX0_hour_0 1 rfl rfl)
theorem dX0_hour_2 : decode cX0_hour 2 = .ok (.sipush 9999, 3) := dk_17 39 15 (dk_at dksX0_hour_0 2 rfl rfl)
theorem dX0_hour_5 : decode cX0_hour 5 = .ok (.invokestatic 82, 3) := dk_184 0 82 (dk_at dksX0_hour_0 5 rfl rfl)
theorem dX0_hour_8 : decode cX0_hour 8 = .ok (.ifCond .ne 5, 3) := dk_154 0 5 (dk_at dksX0_hour_0 8 rfl rfl)
theorem dX0_hour_11 : decode cX0_hour 11 = .ok (.iconst (-1), 1) := dk_2 (dk_at dksX0_hour_0 11 rfl rfl)
theorem dX0_hour_12 : decode cX0_hour 12 = .ok (.ireturn, 1) := dk_172 (dk_at dksX0_hour_0 12 rfl rfl)
theorem dX0_hour_13 : decode cX0_hour 13 = .ok (.iconst 0, 1) := dk_3 (dk_at dksX0_hour_0 13 rfl rfl)
theorem dX0_hour_14 : decode cX0_hour 14 = .ok (.istore_n 2, 1) := dk_61 (dk_at dksX0_hour_0 14 rfl rfl)
theorem dX0_hour_15 : decode cX0_hour 15 = .ok (.iconst 0, 1) := dk_3 (dk_at dksX0_hour_0 15 rfl rfl)
theorem dX0_hour_16 : decode cX0_hour 16 = .ok (.istore_n 3, 1) := dk_62 (dk_at dksX0_hour_0 16 rfl rfl)
theorem dX0_hour_17 : decode cX0_hour 17 = .ok (.iload_n 3, 1) := dk_29 (dk_at dksX0_hour_0 17 rfl rfl)
theorem dX0_hour_18 : decode cX0_hour 18 = .ok (.aload_n 0, 1) := dk_42 (dk_at dksX0_hour_0 18 rfl rfl)
theorem dX0_hour_19 : decode cX0_hour 19 = .ok (.getfield 21, 3) := dk_180 0 21 (dk_at dksX0_hour_0 19 rfl rfl)
theorem dX0_hour_22 : decode cX0_hour 22 = .ok (.getfield 176, 3) := dk_180 0 176 (dk_at dksX0_hour_1 0 rfl rfl)
theorem dX0_hour_25 : decode cX0_hour 25 = .ok (.bipush 12, 2) := dk_16 12 (dk_at dksX0_hour_1 3 rfl rfl)
theorem dX0_hour_27 : decode cX0_hour 27 = .ok (.iaload, 1) := dk_46 (dk_at dksX0_hour_1 5 rfl rfl)
theorem dX0_hour_28 : decode cX0_hour 28 = .ok (.if_icmp .ge 48, 3) := dk_162 0 48 (dk_at dksX0_hour_1 6 rfl rfl)
theorem dX0_hour_31 : decode cX0_hour 31 = .ok (.iload_n 2, 1) := dk_28 (dk_at dksX0_hour_1 9 rfl rfl)
theorem dX0_hour_32 : decode cX0_hour 32 = .ok (.aload_n 0, 1) := dk_42 (dk_at dksX0_hour_1 10 rfl rfl)
theorem dX0_hour_33 : decode cX0_hour 33 = .ok (.getfield 21, 3) := dk_180 0 21 (dk_at dksX0_hour_1 11 rfl rfl)
theorem dX0_hour_36 : decode cX0_hour 36 = .ok (.getfield 176, 3) := dk_180 0 176 (dk_at dksX0_hour_1 14 rfl rfl)
theorem dX0_hour_39 : decode cX0_hour 39 = .ok (.bipush 13, 2) := dk_16 13 (dk_at dksX0_hour_1 17 rfl rfl)
theorem dX0_hour_41 : decode cX0_hour 41 = .ok (.iconst 2, 1) := dk_5 (dk_at dksX0_hour_1 19 rfl rfl)
theorem dX0_hour_42 : decode cX0_hour 42 = .ok (.iload_n 3, 1) := dk_29 (dk_at dksX0_hour_1 20 rfl rfl)
theorem dX0_hour_43 : decode cX0_hour 43 = .ok (.imul, 1) := dk_104 (dk_at dksX0_hour_1 21 rfl rfl)
theorem dX0_hour_44 : decode cX0_hour 44 = .ok (.iadd, 1) := dk_96 (dk_at dksX0_hour_1 22 rfl rfl)
theorem dX0_hour_45 : decode cX0_hour 45 = .ok (.iconst 1, 1) := dk_4 (dk_at dksX0_hour_1 23 rfl rfl)
theorem dX0_hour_46 : decode cX0_hour 46 = .ok (.iadd, 1) := dk_96 (dk_at dksX0_hour_2 0 rfl rfl)
theorem dX0_hour_47 : decode cX0_hour 47 = .ok (.iaload, 1) := dk_46 (dk_at dksX0_hour_2 1 rfl rfl)
theorem dX0_hour_48 : decode cX0_hour 48 = .ok (.aload_n 0, 1) := dk_42 (dk_at dksX0_hour_2 2 rfl rfl)
theorem dX0_hour_49 : decode cX0_hour 49 = .ok (.getfield 21, 3) := dk_180 0 21 (dk_at dksX0_hour_2 3 rfl rfl)
theorem dX0_hour_52 : decode cX0_hour 52 = .ok (.getfield 176, 3) := dk_180 0 176 (dk_at dksX0_hour_2 6 rfl rfl)
theorem dX0_hour_55 : decode cX0_hour 55 = .ok (.bipush 8, 2) := dk_16 8 (dk_at dksX0_hour_2 9 rfl rfl)
theorem dX0_hour_57 : decode cX0_hour 57 = .ok (.iaload, 1) := dk_46 (dk_at dksX0_hour_2 11 rfl rfl)
theorem dX0_hour_58 : decode cX0_hour 58 = .ok (.iload_n 1, 1) := dk_27 (dk_at dksX0_hour_2 12 rfl rfl)
theorem dX0_hour_59 : decode cX0_hour 59 = .ok (.isub, 1) := dk_100 (dk_at dksX0_hour_2 13 rfl rfl)
theorem dX0_hour_60 : decode cX0_hour 60 = .ok (.if_icmp .le 7, 3) := dk_164 0 7 (dk_at dksX0_hour_2 14 rfl rfl)
theorem dX0_hour_63 : decode cX0_hour 63 = .ok (.iconst 1, 1) := dk_4 (dk_at dksX0_hour_2 17 rfl rfl)
theorem dX0_hour_64 : decode cX0_hour 64 = .ok (.goto 4, 3) := dk_167 0 4 (dk_at dksX0_hour_2 18 rfl rfl)
theorem dX0_hour_67 : decode cX0_hour 67 = .ok (.iconst 0, 1) := dk_3 (dk_at dksX0_hour_2 21 rfl rfl)
theorem dX0_hour_68 : decode cX0_hour 68 = .ok (.iadd, 1) := dk_96 (dk_at dksX0_hour_2 22 rfl rfl)
theorem dX0_hour_69 : decode cX0_hour 69 = .ok (.istore_n 2, 1) := dk_61 (dk_at dksX0_hour_2 23 rfl rfl)
theorem dX0_hour_70 : decode cX0_hour 70 = .ok (.iinc 3 1, 3) := dk_132 3 1 (dk_at dksX0_hour_3 0 rfl rfl)
theorem dX0_hour_73 : decode cX0_hour 73 = .ok (.goto (-56), 3) := dk_167 255 200 (dk_at dksX0_hour_3 3 rfl rfl)
theorem dX0_hour_76 : decode cX0_hour 76 = .ok (.iload_n 2, 1) := dk_28 (dk_at dksX0_hour_3 6 rfl rfl)
theorem dX0_hour_77 : decode cX0_hour 77 = .ok (.ireturn, 1) := dk_172 (dk_at dksX0_hour_3 7 rfl rfl)
abbrev cX0_mean : ByteArray := prog_1_method_84_code
def yX0_mean : MethodName := ⟨RX0, "mean", "(Z)I"⟩
def dkwX0_mean_2 : List UInt8 := [46, 100, 133, 28, 133, 27, 184, 1, 72, 136, 172]
abbrev dktX0_mean_2 : List UInt8 := dkwX0_mean_2 ++ []
def dkwX0_mean_1 : List UInt8 := [180, 0, 21, 180, 0, 176, 16, 13, 5, 28, 104, 96, 4, 96, 46, 42, 180, 0, 21, 180, 0, 176, 16, 14]
abbrev dktX0_mean_1 : List UInt8 := dkwX0_mean_1 ++ dktX0_mean_2
def dkwX0_mean_0 : List UInt8 := [42, 180, 0, 21, 180, 0, 176, 16, 12, 46, 4, 100, 61, 28, 4, 162, 0, 7, 2, 167, 0, 38, 42]
abbrev dktX0_mean_0 : List UInt8 := dkwX0_mean_0 ++ dktX0_mean_1
theorem dksX0_mean_0 : cX0_mean.data.toList.drop 0 = dktX0_mean_0 := by decide +kernel
theorem dksX0_mean_1 : cX0_mean.data.toList.drop 23 = dktX0_mean_1 := dk_seg dksX0_mean_0 23 rfl rfl
theorem dksX0_mean_2 : cX0_mean.data.toList.drop 47 = dktX0_mean_2 := dk_seg dksX0_mean_1 24 rfl rfl
theorem dX0_mean_0 : decode cX0_mean 0 = .ok (.aload_n 0, 1) := dk_42 (dk_at dksX0_mean_0 0 rfl rfl)
theorem dX0_mean_1 : decode cX0_mean 1 = .ok (.getfield 21, 3) := dk_180 0 21 (dk_at dksX0_mean_0 1 rfl rfl)
theorem dX0_mean_4 : decode cX0_mean 4 = .ok (.getfield 176, 3) := dk_180 0 176 (dk_at dksX0_mean_0 4 rfl rfl)
theorem dX0_mean_7 : decode cX0_mean 7 = .ok (.bipush 12, 2) := dk_16 12 (dk_at dksX0_mean_0 7 rfl rfl)
theorem dX0_mean_9 : decode cX0_mean 9 = .ok (.iaload, 1) := dk_46 (dk_at dksX0_mean_0 9 rfl rfl)
theorem dX0_mean_10 : decode cX0_mean 10 = .ok (.iconst 1, 1) := dk_4 (dk_at dksX0_mean_0 10 rfl rfl)
theorem dX0_mean_11 : decode cX0_mean 11 = .ok (.isub, 1) := dk_100 (dk_at dksX0_mean_0 11 rfl rfl)
theorem dX0_mean_12 : decode cX0_mean 12 = .ok (.istore_n 2, 1) := dk_61 (dk_at dksX0_mean_0 12 rfl rfl)
theorem dX0_mean_13 : decode cX0_mean 13 = .ok (.iload_n 2, 1) := dk_28 (dk_at dksX0_mean_0 13 rfl rfl)
theorem dX0_mean_14 : decode cX0_mean 14 = .ok (.iconst 1, 1) := dk_4 (dk_at dksX0_mean_0 14 rfl rfl)
theorem dX0_mean_15 : decode cX0_mean 15 = .ok (.if_icmp .ge 7, 3) := dk_162 0 7 (dk_at dksX0_mean_0 15 rfl rfl)
theorem dX0_mean_18 : decode cX0_mean 18 = .ok (.iconst (-1), 1) := dk_2 (dk_at dksX0_mean_0 18 rfl rfl)
theorem dX0_mean_19 : decode cX0_mean 19 = .ok (.goto 38, 3) := dk_167 0 38 (dk_at dksX0_mean_0 19 rfl rfl)
theorem dX0_mean_22 : decode cX0_mean 22 = .ok (.aload_n 0, 1) := dk_42 (dk_at dksX0_mean_0 22 rfl rfl)
theorem dX0_mean_23 : decode cX0_mean 23 = .ok (.getfield 21, 3) := dk_180 0 21 (dk_at dksX0_mean_1 0 rfl rfl)
theorem dX0_mean_26 : decode cX0_mean 26 = .ok (.getfield 176, 3) := dk_180 0 176 (dk_at dksX0_mean_1 3 rfl rfl)
theorem dX0_mean_29 : decode cX0_mean 29 = .ok (.bipush 13, 2) := dk_16 13 (dk_at dksX0_mean_1 6 rfl rfl)
theorem dX0_mean_31 : decode cX0_mean 31 = .ok (.iconst 2, 1) := dk_5 (dk_at dksX0_mean_1 8 rfl rfl)
theorem dX0_mean_32 : decode cX0_mean 32 = .ok (.iload_n 2, 1) := dk_28 (dk_at dksX0_mean_1 9 rfl rfl)
theorem dX0_mean_33 : decode cX0_mean 33 = .ok (.imul, 1) := dk_104 (dk_at dksX0_mean_1 10 rfl rfl)
theorem dX0_mean_34 : decode cX0_mean 34 = .ok (.iadd, 1) := dk_96 (dk_at dksX0_mean_1 11 rfl rfl)
theorem dX0_mean_35 : decode cX0_mean 35 = .ok (.iconst 1, 1) := dk_4 (dk_at dksX0_mean_1 12 rfl rfl)
theorem dX0_mean_36 : decode cX0_mean 36 = .ok (.iadd, 1) := dk_96 (dk_at dksX0_mean_1 13 rfl rfl)
theorem dX0_mean_37 : decode cX0_mean 37 = .ok (.iaload, 1) := dk_46 (dk_at dksX0_mean_1 14 rfl rfl)
theorem dX0_mean_38 : decode cX0_mean 38 = .ok (.aload_n 0, 1) := dk_42 (dk_at dksX0_mean_1 15 rfl rfl)
theorem dX0_mean_39 : decode cX0_mean 39 = .ok (.getfield 21, 3) := dk_180 0 21 (dk_at dksX0_mean_1 16 rfl rfl)
theorem dX0_mean_42 : decode cX0_mean 42 = .ok (.getfield 176, 3) := dk_180 0 176 (dk_at dksX0_mean_1 19 rfl rfl)
theorem dX0_mean_45 : decode cX0_mean 45 = .ok (.bipush 14, 2) := dk_16 14 (dk_at dksX0_mean_1 22 rfl rfl)
theorem dX0_mean_47 : decode cX0_mean 47 = .ok (.iaload, 1) := dk_46 (dk_at dksX0_mean_2 0 rfl rfl)
theorem dX0_mean_48 : decode cX0_mean 48 = .ok (.isub, 1) := dk_100 (dk_at dksX0_mean_2 1 rfl rfl)
theorem dX0_mean_49 : decode cX0_mean 49 = .ok (.i2l, 1) := dk_133 (dk_at dksX0_mean_2 2 rfl rfl)
theorem dX0_mean_50 : decode cX0_mean 50 = .ok (.iload_n 2, 1) := dk_28 (dk_at dksX0_mean_2 3 rfl rfl)
theorem dX0_mean_51 : decode cX0_mean 51 = .ok (.i2l, 1) := dk_133 (dk_at dksX0_mean_2 4 rfl rfl)
theorem dX0_mean_52 : decode cX0_mean 52 = .ok (.iload_n 1, 1) := dk_27 (dk_at dksX0_mean_2 5 rfl rfl)
theorem dX0_mean_53 : decode cX0_mean 53 = .ok (.invokestatic 328, 3) := dk_184 1 72 (dk_at dksX0_mean_2 6 rfl rfl)
theorem dX0_mean_56 : decode cX0_mean 56 = .ok (.l2i, 1) := dk_136 (dk_at dksX0_mean_2 9 rfl rfl)
theorem dX0_mean_57 : decode cX0_mean 57 = .ok (.ireturn, 1) := dk_172 (dk_at dksX0_mean_2 10 rfl rfl)
abbrev cX0_image : ByteArray := prog_1_method_85_code
def yX0_image : MethodName := ⟨RX0, "image", "()I"⟩
def dkwX0_image_0 : List UInt8 := [42, 180, 0, 25, 42, 180, 0, 21, 182, 0, 75, 42, 180, 0, 21, 180, 0, 176, 16, 8, 46, 172]
abbrev dktX0_image_0 : List UInt8 := dkwX0_image_0 ++ []
theorem dksX0_image_0 : cX0_image.data.toList.drop 0 = dktX0_image_0 := by decide +kernel
theorem dX0_image_0 : decode cX0_image 0 = .ok (.aload_n 0, 1) := dk_42 (dk_at dksX0_image_0 0 rfl rfl)
theorem dX0_image_1 : decode cX0_image 1 = .ok (.getfield 25, 3) := dk_180 0 25 (dk_at dksX0_image_0 1 rfl rfl)
theorem dX0_image_4 : decode cX0_image 4 = .ok (.aload_n 0, 1) := dk_42 (dk_at dksX0_image_0 4 rfl rfl)
theorem dX0_image_5 : decode cX0_image 5 = .ok (.getfield 21, 3) := dk_180 0 21 (dk_at dksX0_image_0 5 rfl rfl)
theorem dX0_image_8 : decode cX0_image 8 = .ok (.invokevirtual 75, 3) := dk_182 0 75 (dk_at dksX0_image_0 8 rfl rfl)
theorem dX0_image_11 : decode cX0_image 11 = .ok (.aload_n 0, 1) := dk_42 (dk_at dksX0_image_0 11 rfl rfl)
theorem dX0_image_12 : decode cX0_image 12 = .ok (.getfield 21, 3) := dk_180 0 21 (dk_at dksX0_image_0 12 rfl rfl)
theorem dX0_image_15 : decode cX0_image 15 = .ok (.getfield 176, 3) := dk_180 0 176 (dk_at dksX0_image_0 15 rfl rfl)
theorem dX0_image_18 : decode cX0_image 18 = .ok (.bipush 8, 2) := dk_16 8 (dk_at dksX0_image_0 18 rfl rfl)
theorem dX0_image_20 : decode cX0_image 20 = .ok (.iaload, 1) := dk_46 (dk_at dksX0_image_0 20 rfl rfl)
theorem dX0_image_21 : decode cX0_image 21 = .ok (.ireturn, 1) := dk_172 (dk_at dksX0_image_0 21 rfl rfl)
abbrev cX0_back : ByteArray := prog_1_method_86_code
def yX0_back : MethodName := ⟨RX0, "back", "()I"⟩
def dkwX0_back_0 : List UInt8 := [42, 180, 0, 21, 42, 180, 0, 25, 182, 0, 75, 42, 180, 0, 21, 180, 0, 176, 16, 8, 46, 172]
abbrev dktX0_back_0 : List UInt8 := dkwX0_back_0 ++ []
theorem dksX0_back_0 : cX0_back.data.toList.drop 0 = dktX0_back_0 := by decide +kernel
theorem dX0_back_0 : decode cX0_back 0 = .ok (.aload_n 0, 1) := dk_42 (dk_at dksX0_back_0 0 rfl rfl)
theorem dX0_back_1 : decode cX0_back 1 = .ok (.getfield 21, 3) := dk_180 0 21 (dk_at dksX0_back_0 1 rfl rfl)
theorem dX0_back_4 : decode cX0_back 4 = .ok (.aload_n 0, 1) := dk_42 (dk_at dksX0_back_0 4 rfl rfl)
theorem dX0_back_5 : decode cX0_back 5 = .ok (.getfield 25, 3) := dk_180 0 25 (dk_at dksX0_back_0 5 rfl rfl)
theorem dX0_back_8 : decode cX0_back 8 = .ok (.invokevirtual 75, 3) := dk_182 0 75 (dk_at dksX0_back_0 8 rfl rfl)
theorem dX0_back_11 : decode cX0_back 11 = .ok (.aload_n 0, 1) := dk_42 (dk_at dksX0_back_0 11 rfl rfl)
theorem dX0_back_12 : decode cX0_back 12 = .ok (.getfield 21, 3) := dk_180 0 21 (dk_at dksX0_back_0 12 rfl rfl)
theorem dX0_back_15 : decode cX0_back 15 = .ok (.getfield 176, 3) := dk_180 0 176 (dk_at dksX0_back_0 15 rfl rfl)
theorem dX0_back_18 : decode cX0_back 18 = .ok (.bipush 8, 2) := dk_16 8 (dk_at dksX0_back_0 18 rfl rfl)
theorem dX0_back_20 : decode cX0_back 20 = .ok (.iaload, 1) := dk_46 (dk_at dksX0_back_0 20 rfl rfl)
theorem dX0_back_21 : decode cX0_back 21 = .ok (.ireturn, 1) := dk_172 (dk_at dksX0_back_0 21 rfl rfl)
abbrev cX0_about : ByteArray := prog_1_method_87_code
def yX0_about : MethodName := ⟨RX0, "about", "(I)I"⟩
def dkwX0_about_6 : List UInt8 := [180, 0, 93, 172, 42, 180, 0, 21, 180, 0, 79, 16, 6, 46, 172, 16, 254, 172]
abbrev dktX0_about_6 : List UInt8 := dkwX0_about_6 ++ []
def dkwX0_about_5 : List UInt8 := [180, 0, 21, 180, 0, 176, 16, 8, 46, 42, 180, 0, 21, 180, 0, 176, 184, 0, 146, 100, 172, 42]
abbrev dktX0_about_5 : List UInt8 := dkwX0_about_5 ++ dktX0_about_6
def dkwX0_about_4 : List UInt8 := [6, 46, 172, 42, 180, 0, 21, 180, 0, 79, 7, 46, 172, 42, 180, 0, 21, 180, 0, 79, 8, 46, 172, 42]
abbrev dktX0_about_4 : List UInt8 := dkwX0_about_4 ++ dktX0_about_5
def dkwX0_about_3 : List UInt8 := [180, 0, 176, 16, 9, 46, 172, 42, 180, 0, 21, 180, 0, 79, 5, 46, 172, 42, 180, 0, 21, 180, 0, 79]
abbrev dktX0_about_3 : List UInt8 := dkwX0_about_3 ++ dktX0_about_4
def dkwX0_about_2 : List UInt8 := [42, 180, 0, 21, 180, 0, 79, 3, 46, 172, 42, 180, 0, 21, 180, 0, 79, 4, 46, 172, 42, 180, 0, 21]
abbrev dktX0_about_2 : List UInt8 := dkwX0_about_2 ++ dktX0_about_3
def dkwX0_about_1 : List UInt8 := [170, 0, 0, 0, 0, 0, 164, 0, 0, 0, 0, 0, 0, 0, 9, 0, 0, 0, 55, 0, 0, 0, 65, 0, 0, 0, 75, 0, 0, 0, 86, 0, 0, 0, 96, 0, 0, 0, 106, 0, 0, 0, 116, 0, 0, 0, 126, 0, 0, 0, 148, 0, 0, 0, 153]
abbrev dktX0_about_1 : List UInt8 := dkwX0_about_1 ++ dktX0_about_2
def dkwX0_about_0 : List UInt8 := [27]
abbrev dktX0_about_0 : List UInt8 := dkwX0_about_0 ++ dktX0_about_1
theorem dksX0_about_0 : cX0_about.data.toList.drop 0 = dktX0_about_0 := by decide +kernel
theorem dksX0_about_1 : cX0_about.data.toList.drop 1 = dktX0_about_1 := dk_seg dksX0_about_0 1 rfl rfl
theorem dksX0_about_2 : cX0_about.data.toList.drop 56 = dktX0_about_2 := dk_seg dksX0_about_1 55 rfl rfl
theorem dksX0_about_3 : cX0_about.data.toList.drop 80 = dktX0_about_3 := dk_seg dksX0_about_2 24 rfl rfl
theorem dksX0_about_4 : cX0_about.data.toList.drop 104 = dktX0_about_4 := dk_seg dksX0_about_3 24 rfl rfl
theorem dksX0_about_5 : cX0_about.data.toList.drop 128 = dktX0_about_5 := dk_seg dksX0_about_4 24 rfl rfl
theorem dksX0_about_6 : cX0_about.data.toList.drop 150 = dktX0_about_6 := dk_seg dksX0_about_5 22 rfl rfl
theorem dX0_about_0 : decode cX0_about 0 = .ok (.iload_n 1, 1) := dk_27 (dk_at dksX0_about_0 0 rfl rfl)
theorem dX0_about_1 : decode cX0_about 1 = .ok (.tableswitch 164 0 9 #[55, 65, 75, 86, 96, 106, 116, 126, 148, 153], 55) := by decide +kernel
theorem dX0_about_56 : decode cX0_about 56 = .ok (.aload_n 0, 1) := dk_42 (dk_at dksX0_about_2 0 rfl rfl)
theorem dX0_about_57 : decode cX0_about 57 = .ok (.getfield 21, 3) := dk_180 0 21 (dk_at dksX0_about_2 1 rfl rfl)
theorem dX0_about_60 : decode cX0_about 60 = .ok (.getfield 79, 3) := dk_180 0 79 (dk_at dksX0_about_2 4 rfl rfl)
theorem dX0_about_63 : decode cX0_about 63 = .ok (.iconst 0, 1) := dk_3 (dk_at dksX0_about_2 7 rfl rfl)
theorem dX0_about_64 : decode cX0_about 64 = .ok (.iaload, 1) := dk_46 (dk_at dksX0_about_2 8 rfl rfl)
theorem dX0_about_65 : decode cX0_about 65 = .ok (.ireturn, 1) := dk_172 (dk_at dksX0_about_2 9 rfl rfl)
theorem dX0_about_66 : decode cX0_about 66 = .ok (.aload_n 0, 1) := dk_42 (dk_at dksX0_about_2 10 rfl rfl)
theorem dX0_about_67 : decode cX0_about 67 = .ok (.getfield 21, 3) := dk_180 0 21 (dk_at dksX0_about_2 11 rfl rfl)
theorem dX0_about_70 : decode cX0_about 70 = .ok (.getfield 79, 3) := dk_180 0 79 (dk_at dksX0_about_2 14 rfl rfl)
theorem dX0_about_73 : decode cX0_about 73 = .ok (.iconst 1, 1) := dk_4 (dk_at dksX0_about_2 17 rfl rfl)
theorem dX0_about_74 : decode cX0_about 74 = .ok (.iaload, 1) := dk_46 (dk_at dksX0_about_2 18 rfl rfl)
theorem dX0_about_75 : decode cX0_about 75 = .ok (.ireturn, 1) := dk_172 (dk_at dksX0_about_2 19 rfl rfl)
theorem dX0_about_76 : decode cX0_about 76 = .ok (.aload_n 0, 1) := dk_42 (dk_at dksX0_about_2 20 rfl rfl)
theorem dX0_about_77 : decode cX0_about 77 = .ok (.getfield 21, 3) := dk_180 0 21 (dk_at dksX0_about_2 21 rfl rfl)
theorem dX0_about_80 : decode cX0_about 80 = .ok (.getfield 176, 3) := dk_180 0 176 (dk_at dksX0_about_3 0 rfl rfl)
theorem dX0_about_83 : decode cX0_about 83 = .ok (.bipush 9, 2) := dk_16 9 (dk_at dksX0_about_3 3 rfl rfl)
theorem dX0_about_85 : decode cX0_about 85 = .ok (.iaload, 1) := dk_46 (dk_at dksX0_about_3 5 rfl rfl)
theorem dX0_about_86 : decode cX0_about 86 = .ok (.ireturn, 1) := dk_172 (dk_at dksX0_about_3 6 rfl rfl)
theorem dX0_about_87 : decode cX0_about 87 = .ok (.aload_n 0, 1) := dk_42 (dk_at dksX0_about_3 7 rfl rfl)
theorem dX0_about_88 : decode cX0_about 88 = .ok (.getfield 21, 3) := dk_180 0 21 (dk_at dksX0_about_3 8 rfl rfl)
theorem dX0_about_91 : decode cX0_about 91 = .ok (.getfield 79, 3) := dk_180 0 79 (dk_at dksX0_about_3 11 rfl rfl)
theorem dX0_about_94 : decode cX0_about 94 = .ok (.iconst 2, 1) := dk_5 (dk_at dksX0_about_3 14 rfl rfl)
theorem dX0_about_95 : decode cX0_about 95 = .ok (.iaload, 1) := dk_46 (dk_at dksX0_about_3 15 rfl rfl)
theorem dX0_about_96 : decode cX0_about 96 = .ok (.ireturn, 1) := dk_172 (dk_at dksX0_about_3 16 rfl rfl)
theorem dX0_about_97 : decode cX0_about 97 = .ok (.aload_n 0, 1) := dk_42 (dk_at dksX0_about_3 17 rfl rfl)
theorem dX0_about_98 : decode cX0_about 98 = .ok (.getfield 21, 3) := dk_180 0 21 (dk_at dksX0_about_3 18 rfl rfl)
theorem dX0_about_101 : decode cX0_about 101 = .ok (.getfield 79, 3) := dk_180 0 79 (dk_at dksX0_about_3 21 rfl rfl)
theorem dX0_about_104 : decode cX0_about 104 = .ok (.iconst 3, 1) := dk_6 (dk_at dksX0_about_4 0 rfl rfl)
theorem dX0_about_105 : decode cX0_about 105 = .ok (.iaload, 1) := dk_46 (dk_at dksX0_about_4 1 rfl rfl)
theorem dX0_about_106 : decode cX0_about 106 = .ok (.ireturn, 1) := dk_172 (dk_at dksX0_about_4 2 rfl rfl)
theorem dX0_about_107 : decode cX0_about 107 = .ok (.aload_n 0, 1) := dk_42 (dk_at dksX0_about_4 3 rfl rfl)
theorem dX0_about_108 : decode cX0_about 108 = .ok (.getfield 21, 3) := dk_180 0 21 (dk_at dksX0_about_4 4 rfl rfl)
theorem dX0_about_111 : decode cX0_about 111 = .ok (.getfield 79, 3) := dk_180 0 79 (dk_at dksX0_about_4 7 rfl rfl)
theorem dX0_about_114 : decode cX0_about 114 = .ok (.iconst 4, 1) := dk_7 (dk_at dksX0_about_4 10 rfl rfl)
theorem dX0_about_115 : decode cX0_about 115 = .ok (.iaload, 1) := dk_46 (dk_at dksX0_about_4 11 rfl rfl)
theorem dX0_about_116 : decode cX0_about 116 = .ok (.ireturn, 1) := dk_172 (dk_at dksX0_about_4 12 rfl rfl)
theorem dX0_about_117 : decode cX0_about 117 = .ok (.aload_n 0, 1) := dk_42 (dk_at dksX0_about_4 13 rfl rfl)
theorem dX0_about_118 : decode cX0_about 118 = .ok (.getfield 21, 3) := dk_180 0 21 (dk_at dksX0_about_4 14 rfl rfl)
theorem dX0_about_121 : decode cX0_about 121 = .ok (.getfield 79, 3) := dk_180 0 79 (dk_at dksX0_about_4 17 rfl rfl)
theorem dX0_about_124 : decode cX0_about 124 = .ok (.iconst 5, 1) := dk_8 (dk_at dksX0_about_4 20 rfl rfl)
theorem dX0_about_125 : decode cX0_about 125 = .ok (.iaload, 1) := dk_46 (dk_at dksX0_about_4 21 rfl rfl)
theorem dX0_about_126 : decode cX0_about 126 = .ok (.ireturn, 1) := dk_172 (dk_at dksX0_about_4 22 rfl rfl)
theorem dX0_about_127 : decode cX0_about 127 = .ok (.aload_n 0, 1) := dk_42 (dk_at dksX0_about_4 23 rfl rfl)
theorem dX0_about_128 : decode cX0_about 128 = .ok (.getfield 21, 3) := dk_180 0 21 (dk_at dksX0_about_5 0 rfl rfl)
theorem dX0_about_131 : decode cX0_about 131 = .ok (.getfield 176, 3) := dk_180 0 176 (dk_at dksX0_about_5 3 rfl rfl)
theorem dX0_about_134 : decode cX0_about 134 = .ok (.bipush 8, 2) := dk_16 8 (dk_at dksX0_about_5 6 rfl rfl)
theorem dX0_about_136 : decode cX0_about 136 = .ok (.iaload, 1) := dk_46 (dk_at dksX0_about_5 8 rfl rfl)
theorem dX0_about_137 : decode cX0_about 137 = .ok (.aload_n 0, 1) := dk_42 (dk_at dksX0_about_5 9 rfl rfl)
theorem dX0_about_138 : decode cX0_about 138 = .ok (.getfield 21, 3) := dk_180 0 21 (dk_at dksX0_about_5 10 rfl rfl)
theorem dX0_about_141 : decode cX0_about 141 = .ok (.getfield 176, 3) := dk_180 0 176 (dk_at dksX0_about_5 13 rfl rfl)
theorem dX0_about_144 : decode cX0_about 144 = .ok (.invokestatic 146, 3) := dk_184 0 146 (dk_at dksX0_about_5 16 rfl rfl)
theorem dX0_about_147 : decode cX0_about 147 = .ok (.isub, 1) := dk_100 (dk_at dksX0_about_5 19 rfl rfl)
theorem dX0_about_148 : decode cX0_about 148 = .ok (.ireturn, 1) := dk_172 (dk_at dksX0_about_5 20 rfl rfl)
theorem dX0_about_149 : decode cX0_about 149 = .ok (.aload_n 0, 1) := dk_42 (dk_at dksX0_about_5 21 rfl rfl)
theorem dX0_about_150 : decode cX0_about 150 = .ok (.getfield 93, 3) := dk_180 0 93 (dk_at dksX0_about_6 0 rfl rfl)
theorem dX0_about_153 : decode cX0_about 153 = .ok (.ireturn, 1) := dk_172 (dk_at dksX0_about_6 3 rfl rfl)
theorem dX0_about_154 : decode cX0_about 154 = .ok (.aload_n 0, 1) := dk_42 (dk_at dksX0_about_6 4 rfl rfl)
theorem dX0_about_155 : decode cX0_about 155 = .ok (.getfield 21, 3) := dk_180 0 21 (dk_at dksX0_about_6 5 rfl rfl)
theorem dX0_about_158 : decode cX0_about 158 = .ok (.getfield 79, 3) := dk_180 0 79 (dk_at dksX0_about_6 8 rfl rfl)
theorem dX0_about_161 : decode cX0_about 161 = .ok (.bipush 6, 2) := dk_16 6 (dk_at dksX0_about_6 11 rfl rfl)
theorem dX0_about_163 : decode cX0_about 163 = .ok (.iaload, 1) := dk_46 (dk_at dksX0_about_6 13 rfl rfl)
theorem dX0_about_164 : decode cX0_about 164 = .ok (.ireturn, 1) := dk_172 (dk_at dksX0_about_6 14 rfl rfl)
theorem dX0_about_165 : decode cX0_about 165 = .ok (.bipush (-2), 2) := dk_16 254 (dk_at dksX0_about_6 15 rfl rfl)
theorem dX0_about_167 : decode cX0_about 167 = .ok (.ireturn, 1) := dk_172 (dk_at dksX0_about_6 17 rfl rfl)
theorem q130 : (Jvm.Cond.initialized "HookSwings") ∈ lw_all := lw_g (lw_at lw_m1 1 rfl) rfl
theorem q165 : (Jvm.Cond.instantiable "HookSwings" (22 : Nat)) ∈ lw_all := lw_g (lw_at lw_m1 36 rfl) rfl
theorem q167 : (Jvm.Cond.instanceMethod ({ cls := "HookSwings", name := "<init>", desc := "()V" } : Jvm.MethodName)) ∈ lw_all := lw_g (lw_at lw_m1 38 rfl) rfl
theorem q168 : (Jvm.Cond.code ({ cls := "HookSwings", name := "<init>", desc := "()V" } : Jvm.MethodName) prog_1_method_4_code (1 : Nat) (Option.none : Option Jvm.ClassFile.FieldType)) ∈ lw_all := lw_g (lw_at lw_m1 39 rfl) rfl
theorem q169 : (Jvm.Cond.methodLink "HookSwings" (12 : Nat) ({ cls := "java/lang/Object", name := "<init>", desc := "()V" } : Jvm.MethodName)) ∈ lw_all := lw_g (lw_at lw_m1 40 rfl) rfl
theorem q172 : (Jvm.Cond.classLink "HookSwings" (18 : Nat) "HookSwings$State") ∈ lw_all := lw_g (lw_at lw_m1 43 rfl) rfl
theorem q174 : (Jvm.Cond.methodLink "HookSwings" (20 : Nat) ({ cls := "HookSwings$State", name := "<init>", desc := "()V" } : Jvm.MethodName)) ∈ lw_all := lw_g (lw_at lw_m1 45 rfl) rfl
theorem q183 : (Jvm.Cond.fieldLinkNest "HookSwings" (79 : Nat) "HookSwings$State" "n" "[I" "HookSwings") ∈ lw_tbl := lw_at lw_m1 54 rfl
theorem q185 : (Jvm.Cond.fieldLinkNest "HookSwings" (176 : Nat) "HookSwings$State" "row" "[I" "HookSwings") ∈ lw_tbl := lw_at lw_m1 56 rfl
theorem q187 : (Jvm.Cond.fieldLinkNest "HookSwings" (86 : Nat) "HookSwings$State" "order" "[[I" "HookSwings") ∈ lw_tbl := lw_at lw_m1 58 rfl
theorem q189 : (Jvm.Cond.fieldLinkNest "HookSwings" (384 : Nat) "HookSwings$State" "said" "[[I" "HookSwings") ∈ lw_tbl := lw_at lw_m1 60 rfl
theorem q191 : (Jvm.Cond.fieldLinkNest "HookSwings" (350 : Nat) "HookSwings$State" "bar" "[[I" "HookSwings") ∈ lw_tbl := lw_at lw_m1 62 rfl
theorem q193 : (Jvm.Cond.fieldLinkNest "HookSwings" (293 : Nat) "HookSwings$State" "step" "[[I" "HookSwings") ∈ lw_tbl := lw_at lw_m1 64 rfl
theorem q195 : (Jvm.Cond.fieldLinkNest "HookSwings" (100 : Nat) "HookSwings$State" "text" "[LHookSwings$Text;" "HookSwings") ∈ lw_tbl := lw_at lw_m1 66 rfl
theorem q212 : (Jvm.Cond.classLink "HookSwings" (46 : Nat) "[[I") ∈ lw_all := lw_g (lw_at lw_m1 83 rfl) rfl
theorem q213 : (Jvm.Cond.methodLink "HookSwings" (75 : Nat) ({ cls := "HookSwings$State", name := "be", desc := "(LHookSwings$State;)V" } : Jvm.MethodName)) ∈ lw_all := lw_g (lw_at lw_m1 84 rfl) rfl
theorem q226 : (Jvm.Cond.fieldLink "HookSwings" (21 : Nat) "HookSwings" "now" "LHookSwings$State;") ∈ lw_all := lw_g (lw_at lw_m1 97 rfl) rfl
theorem q227 : (Jvm.Cond.fieldLink "HookSwings" (25 : Nat) "HookSwings" "image" "LHookSwings$State;") ∈ lw_all := lw_g (lw_at lw_m1 98 rfl) rfl
theorem q228 : (Jvm.Cond.fieldLink "HookSwings" (28 : Nat) "HookSwings" "tape" "[B") ∈ lw_all := lw_g (lw_at lw_m1 99 rfl) rfl
theorem q229 : (Jvm.Cond.fieldLink "HookSwings" (93 : Nat) "HookSwings" "taped" "I") ∈ lw_all := lw_g (lw_at lw_m1 100 rfl) rfl
theorem q230 : (Jvm.Cond.fieldLink "HookSwings" (32 : Nat) "HookSwings" "fault" "I") ∈ lw_all := lw_g (lw_at lw_m1 101 rfl) rfl
theorem q231 : (Jvm.Cond.fieldLink "HookSwings" (36 : Nat) "HookSwings" "faultAt" "I") ∈ lw_all := lw_g (lw_at lw_m1 102 rfl) rfl
theorem q232 : (Jvm.Cond.fieldLink "HookSwings" (39 : Nat) "HookSwings" "names" "[I") ∈ lw_all := lw_g (lw_at lw_m1 103 rfl) rfl
theorem q233 : (Jvm.Cond.fieldLink "HookSwings" (187 : Nat) "HookSwings" "isWindStill" "Z") ∈ lw_all := lw_g (lw_at lw_m1 104 rfl) rfl
theorem q234 : (Jvm.Cond.fieldLink "HookSwings" (43 : Nat) "HookSwings" "tried" "[I") ∈ lw_all := lw_g (lw_at lw_m1 105 rfl) rfl
theorem q235 : (Jvm.Cond.fieldLink "HookSwings" (303 : Nat) "HookSwings" "greatest" "I") ∈ lw_all := lw_g (lw_at lw_m1 106 rfl) rfl
theorem q236 : (Jvm.Cond.fieldLink "HookSwings" (306 : Nat) "HookSwings" "stillAt" "I") ∈ lw_all := lw_g (lw_at lw_m1 107 rfl) rfl
theorem q237 : (Jvm.Cond.fieldLink "HookSwings" (48 : Nat) "HookSwings" "gone" "[[I") ∈ lw_all := lw_g (lw_at lw_m1 108 rfl) rfl
theorem q238 : (Jvm.Cond.fieldLink "HookSwings" (51 : Nat) "HookSwings" "commands" "[I") ∈ lw_all := lw_g (lw_at lw_m1 109 rfl) rfl
theorem q239 : (Jvm.Cond.fieldLink "HookSwings" (54 : Nat) "HookSwings" "waiting" "[I") ∈ lw_all := lw_g (lw_at lw_m1 110 rfl) rfl
theorem q240 : (Jvm.Cond.fieldLink "HookSwings" (57 : Nat) "HookSwings" "which" "[I") ∈ lw_all := lw_g (lw_at lw_m1 111 rfl) rfl
theorem q241 : (Jvm.Cond.fieldLink "HookSwings" (60 : Nat) "HookSwings" "lasts" "[I") ∈ lw_all := lw_g (lw_at lw_m1 112 rfl) rfl
theorem q242 : (Jvm.Cond.fieldLink "HookSwings" (63 : Nat) "HookSwings" "row" "[I") ∈ lw_all := lw_g (lw_at lw_m1 113 rfl) rfl
theorem q243 : (Jvm.Cond.fieldLink "HookSwings" (66 : Nat) "HookSwings" "best" "[I") ∈ lw_all := lw_g (lw_at lw_m1 114 rfl) rfl
theorem q244 : (Jvm.Cond.fieldLink "HookSwings" (69 : Nat) "HookSwings" "begins" "[I") ∈ lw_all := lw_g (lw_at lw_m1 115 rfl) rfl
theorem q245 : (Jvm.Cond.fieldLink "HookSwings" (72 : Nat) "HookSwings" "bestBegins" "[I") ∈ lw_all := lw_g (lw_at lw_m1 116 rfl) rfl
theorem q246 : (Jvm.Cond.fieldLink "HookSwings" (361 : Nat) "HookSwings" "many" "I") ∈ lw_all := lw_g (lw_at lw_m1 117 rfl) rfl
theorem q247 : (Jvm.Cond.fieldLink "HookSwings" (364 : Nat) "HookSwings" "least" "I") ∈ lw_all := lw_g (lw_at lw_m1 118 rfl) rfl
theorem q248 : (Jvm.Cond.laysFinal "HookSwings" "HookSwings" "now" "LHookSwings$State;") ∈ lw_all := lw_g (lw_at lw_m1 119 rfl) rfl
theorem q249 : (Jvm.Cond.soleField "HookSwings" "now") ∈ lw_all := lw_g (lw_at lw_m1 120 rfl) rfl
theorem q250 : (Jvm.Cond.laysFinal "HookSwings" "HookSwings" "image" "LHookSwings$State;") ∈ lw_all := lw_g (lw_at lw_m1 121 rfl) rfl
theorem q251 : (Jvm.Cond.soleField "HookSwings" "image") ∈ lw_all := lw_g (lw_at lw_m1 122 rfl) rfl
theorem q252 : (Jvm.Cond.laysFinal "HookSwings" "HookSwings" "tape" "[B") ∈ lw_all := lw_g (lw_at lw_m1 123 rfl) rfl
theorem q253 : (Jvm.Cond.soleField "HookSwings" "tape") ∈ lw_all := lw_g (lw_at lw_m1 124 rfl) rfl
theorem q254 : (Jvm.Cond.lays "HookSwings" "HookSwings" "taped" "I") ∈ lw_all := lw_g (lw_at lw_m1 125 rfl) rfl
theorem q255 : (Jvm.Cond.soleField "HookSwings" "taped") ∈ lw_all := lw_g (lw_at lw_m1 126 rfl) rfl
theorem q256 : (Jvm.Cond.lays "HookSwings" "HookSwings" "fault" "I") ∈ lw_all := lw_g (lw_at lw_m1 127 rfl) rfl
theorem q257 : (Jvm.Cond.soleField "HookSwings" "fault") ∈ lw_all := lw_g (lw_at lw_m1 128 rfl) rfl
theorem q258 : (Jvm.Cond.lays "HookSwings" "HookSwings" "faultAt" "I") ∈ lw_all := lw_g (lw_at lw_m1 129 rfl) rfl
theorem q259 : (Jvm.Cond.soleField "HookSwings" "faultAt") ∈ lw_all := lw_g (lw_at lw_m1 130 rfl) rfl
theorem q260 : (Jvm.Cond.laysFinal "HookSwings" "HookSwings" "names" "[I") ∈ lw_all := lw_g (lw_at lw_m1 131 rfl) rfl
theorem q261 : (Jvm.Cond.soleField "HookSwings" "names") ∈ lw_all := lw_g (lw_at lw_m1 132 rfl) rfl
theorem q262 : (Jvm.Cond.lays "HookSwings" "HookSwings" "isWindStill" "Z") ∈ lw_all := lw_g (lw_at lw_m1 133 rfl) rfl
theorem q263 : (Jvm.Cond.soleField "HookSwings" "isWindStill") ∈ lw_all := lw_g (lw_at lw_m1 134 rfl) rfl
theorem q264 : (Jvm.Cond.laysFinal "HookSwings" "HookSwings" "tried" "[I") ∈ lw_all := lw_g (lw_at lw_m1 135 rfl) rfl
theorem q265 : (Jvm.Cond.soleField "HookSwings" "tried") ∈ lw_all := lw_g (lw_at lw_m1 136 rfl) rfl
theorem q266 : (Jvm.Cond.lays "HookSwings" "HookSwings" "greatest" "I") ∈ lw_all := lw_g (lw_at lw_m1 137 rfl) rfl
theorem q267 : (Jvm.Cond.soleField "HookSwings" "greatest") ∈ lw_all := lw_g (lw_at lw_m1 138 rfl) rfl
theorem q268 : (Jvm.Cond.lays "HookSwings" "HookSwings" "stillAt" "I") ∈ lw_all := lw_g (lw_at lw_m1 139 rfl) rfl
theorem q269 : (Jvm.Cond.soleField "HookSwings" "stillAt") ∈ lw_all := lw_g (lw_at lw_m1 140 rfl) rfl
theorem q270 : (Jvm.Cond.laysFinal "HookSwings" "HookSwings" "gone" "[[I") ∈ lw_all := lw_g (lw_at lw_m1 141 rfl) rfl
theorem q271 : (Jvm.Cond.soleField "HookSwings" "gone") ∈ lw_all := lw_g (lw_at lw_m1 142 rfl) rfl
theorem q272 : (Jvm.Cond.laysFinal "HookSwings" "HookSwings" "commands" "[I") ∈ lw_all := lw_g (lw_at lw_m1 143 rfl) rfl
theorem q273 : (Jvm.Cond.soleField "HookSwings" "commands") ∈ lw_all := lw_g (lw_at lw_m1 144 rfl) rfl
theorem q274 : (Jvm.Cond.laysFinal "HookSwings" "HookSwings" "waiting" "[I") ∈ lw_all := lw_g (lw_at lw_m1 145 rfl) rfl
theorem q275 : (Jvm.Cond.soleField "HookSwings" "waiting") ∈ lw_all := lw_g (lw_at lw_m1 146 rfl) rfl
theorem q276 : (Jvm.Cond.laysFinal "HookSwings" "HookSwings" "which" "[I") ∈ lw_all := lw_g (lw_at lw_m1 147 rfl) rfl
theorem q277 : (Jvm.Cond.soleField "HookSwings" "which") ∈ lw_all := lw_g (lw_at lw_m1 148 rfl) rfl
theorem q278 : (Jvm.Cond.laysFinal "HookSwings" "HookSwings" "lasts" "[I") ∈ lw_all := lw_g (lw_at lw_m1 149 rfl) rfl
theorem q279 : (Jvm.Cond.soleField "HookSwings" "lasts") ∈ lw_all := lw_g (lw_at lw_m1 150 rfl) rfl
theorem q280 : (Jvm.Cond.laysFinal "HookSwings" "HookSwings" "row" "[I") ∈ lw_all := lw_g (lw_at lw_m1 151 rfl) rfl
theorem q281 : (Jvm.Cond.soleField "HookSwings" "row") ∈ lw_all := lw_g (lw_at lw_m1 152 rfl) rfl
theorem q282 : (Jvm.Cond.laysFinal "HookSwings" "HookSwings" "best" "[I") ∈ lw_all := lw_g (lw_at lw_m1 153 rfl) rfl
theorem q283 : (Jvm.Cond.soleField "HookSwings" "best") ∈ lw_all := lw_g (lw_at lw_m1 154 rfl) rfl
theorem q284 : (Jvm.Cond.laysFinal "HookSwings" "HookSwings" "begins" "[I") ∈ lw_all := lw_g (lw_at lw_m1 155 rfl) rfl
theorem q285 : (Jvm.Cond.soleField "HookSwings" "begins") ∈ lw_all := lw_g (lw_at lw_m1 156 rfl) rfl
theorem q286 : (Jvm.Cond.laysFinal "HookSwings" "HookSwings" "bestBegins" "[I") ∈ lw_all := lw_g (lw_at lw_m1 157 rfl) rfl
theorem q287 : (Jvm.Cond.soleField "HookSwings" "bestBegins") ∈ lw_all := lw_g (lw_at lw_m1 158 rfl) rfl
theorem q288 : (Jvm.Cond.lays "HookSwings" "HookSwings" "many" "I") ∈ lw_all := lw_g (lw_at lw_m1 159 rfl) rfl
theorem q289 : (Jvm.Cond.soleField "HookSwings" "many") ∈ lw_all := lw_g (lw_at lw_m1 160 rfl) rfl
theorem q290 : (Jvm.Cond.lays "HookSwings" "HookSwings" "least" "I") ∈ lw_all := lw_g (lw_at lw_m1 161 rfl) rfl
theorem q291 : (Jvm.Cond.soleField "HookSwings" "least") ∈ lw_all := lw_g (lw_at lw_m1 162 rfl) rfl
theorem q292 : (Jvm.Cond.superclass "HookSwings" "java/lang/Object") ∈ lw_all := lw_g (lw_at lw_m1 163 rfl) rfl
theorem q295 : (Jvm.Cond.instanceMethod ({ cls := "HookSwings", name := "order", desc := "(IIIII)I" } : Jvm.MethodName)) ∈ lw_all := lw_g (lw_at lw_m1 166 rfl) rfl
theorem q296 : (Jvm.Cond.selects "HookSwings" ({ cls := "HookSwings", name := "order", desc := "(IIIII)I" } : Jvm.MethodName) ({ cls := "HookSwings", name := "order", desc := "(IIIII)I" } : Jvm.MethodName)) ∈ lw_all := lw_g (lw_at lw_m1 167 rfl) rfl
theorem q297 : (Jvm.Cond.code ({ cls := "HookSwings", name := "order", desc := "(IIIII)I" } : Jvm.MethodName) prog_1_method_6_code (8 : Nat) (Option.some Jvm.ClassFile.FieldType.int)) ∈ lw_all := lw_g (lw_at lw_m1 168 rfl) rfl
theorem q298 : (Jvm.Cond.methodLink "HookSwings" (82 : Nat) ({ cls := "HookSwings", name := "in", desc := "(III)Z" } : Jvm.MethodName)) ∈ lw_all := lw_g (lw_at lw_m1 169 rfl) rfl
theorem q299 : (Jvm.Cond.static ({ cls := "HookSwings", name := "in", desc := "(III)Z" } : Jvm.MethodName)) ∈ lw_all := lw_g (lw_at lw_m1 170 rfl) rfl
theorem q300 : (Jvm.Cond.code ({ cls := "HookSwings", name := "in", desc := "(III)Z" } : Jvm.MethodName) prog_1_method_1_code (3 : Nat) (Option.some Jvm.ClassFile.FieldType.boolean)) ∈ lw_all := lw_g (lw_at lw_m1 171 rfl) rfl
theorem q301 : (Jvm.Cond.methodLinkNest "HookSwings" (89 : Nat) ({ cls := "HookSwings$State", name := "copy", desc := "([I[I)V" } : Jvm.MethodName) "HookSwings") ∈ lw_tbl := lw_at lw_m1 172 rfl
theorem q303 : (Jvm.Cond.instanceMethod ({ cls := "HookSwings", name := "near", desc := "(I)Z" } : Jvm.MethodName)) ∈ lw_all := lw_g (lw_at lw_m1 174 rfl) rfl
theorem q304 : (Jvm.Cond.selects "HookSwings" ({ cls := "HookSwings", name := "near", desc := "(I)Z" } : Jvm.MethodName) ({ cls := "HookSwings", name := "near", desc := "(I)Z" } : Jvm.MethodName)) ∈ lw_all := lw_g (lw_at lw_m1 175 rfl) rfl
theorem q305 : (Jvm.Cond.code ({ cls := "HookSwings", name := "near", desc := "(I)Z" } : Jvm.MethodName) prog_1_method_7_code (2 : Nat) (Option.some Jvm.ClassFile.FieldType.boolean)) ∈ lw_all := lw_g (lw_at lw_m1 176 rfl) rfl
theorem q307 : (Jvm.Cond.instanceMethod ({ cls := "HookSwings", name := "feed", desc := "(IIIII)I" } : Jvm.MethodName)) ∈ lw_all := lw_g (lw_at lw_m1 178 rfl) rfl
theorem q308 : (Jvm.Cond.selects "HookSwings" ({ cls := "HookSwings", name := "feed", desc := "(IIIII)I" } : Jvm.MethodName) ({ cls := "HookSwings", name := "feed", desc := "(IIIII)I" } : Jvm.MethodName)) ∈ lw_all := lw_g (lw_at lw_m1 179 rfl) rfl
theorem q309 : (Jvm.Cond.code ({ cls := "HookSwings", name := "feed", desc := "(IIIII)I" } : Jvm.MethodName) prog_1_method_9_code (6 : Nat) (Option.some Jvm.ClassFile.FieldType.int)) ∈ lw_all := lw_g (lw_at lw_m1 180 rfl) rfl
theorem q310 : (Jvm.Cond.methodLink "HookSwings" (96 : Nat) ({ cls := "HookSwings", name := "put", desc := "(I)V" } : Jvm.MethodName)) ∈ lw_all := lw_g (lw_at lw_m1 181 rfl) rfl
theorem q311 : (Jvm.Cond.privateMethod ({ cls := "HookSwings", name := "put", desc := "(I)V" } : Jvm.MethodName)) ∈ lw_tbl := lw_at lw_m1 182 rfl
theorem q312 : (Jvm.Cond.instanceMethod ({ cls := "HookSwings", name := "put", desc := "(I)V" } : Jvm.MethodName)) ∈ lw_all := lw_g (lw_at lw_m1 183 rfl) rfl
theorem q313 : (Jvm.Cond.code ({ cls := "HookSwings", name := "put", desc := "(I)V" } : Jvm.MethodName) prog_1_method_8_code (3 : Nat) (Option.none : Option Jvm.ClassFile.FieldType)) ∈ lw_all := lw_g (lw_at lw_m1 184 rfl) rfl
theorem q315 : (Jvm.Cond.instanceMethod ({ cls := "HookSwings", name := "end", desc := "(I)I" } : Jvm.MethodName)) ∈ lw_all := lw_g (lw_at lw_m1 186 rfl) rfl
theorem q316 : (Jvm.Cond.selects "HookSwings" ({ cls := "HookSwings", name := "end", desc := "(I)I" } : Jvm.MethodName) ({ cls := "HookSwings", name := "end", desc := "(I)I" } : Jvm.MethodName)) ∈ lw_all := lw_g (lw_at lw_m1 187 rfl) rfl
theorem q317 : (Jvm.Cond.code ({ cls := "HookSwings", name := "end", desc := "(I)I" } : Jvm.MethodName) prog_1_method_10_code (2 : Nat) (Option.some Jvm.ClassFile.FieldType.int)) ∈ lw_all := lw_g (lw_at lw_m1 188 rfl) rfl
theorem q319 : (Jvm.Cond.instanceMethod ({ cls := "HookSwings", name := "text", desc := "()I" } : Jvm.MethodName)) ∈ lw_all := lw_g (lw_at lw_m1 190 rfl) rfl
theorem q320 : (Jvm.Cond.selects "HookSwings" ({ cls := "HookSwings", name := "text", desc := "()I" } : Jvm.MethodName) ({ cls := "HookSwings", name := "text", desc := "()I" } : Jvm.MethodName)) ∈ lw_all := lw_g (lw_at lw_m1 191 rfl) rfl
theorem q321 : (Jvm.Cond.codeWith ({ cls := "HookSwings", name := "text", desc := "()I" } : Jvm.MethodName) prog_1_method_11_code (5 : Nat) (Option.some Jvm.ClassFile.FieldType.int) [((30 : Nat), (62 : Nat), (70 : Nat), (113 : Nat)), ((30 : Nat), (62 : Nat), (96 : Nat), (0 : Nat)), ((70 : Nat), (89 : Nat), (96 : Nat), (0 : Nat)), ((96 : Nat), (98 : Nat), (96 : Nat), (0 : Nat))]) ∈ lw_all := lw_g (lw_at lw_m1 192 rfl) rfl
theorem q322 : (Jvm.Cond.classLink "HookSwings" (113 : Nat) "HookSwings$Wrong") ∈ lw_all := lw_g (lw_at lw_m1 193 rfl) rfl
theorem q323 : (Jvm.Cond.classLink "HookSwings" (104 : Nat) "HookSwings$Tokens") ∈ lw_all := lw_g (lw_at lw_m1 194 rfl) rfl
theorem q325 : (Jvm.Cond.methodLink "HookSwings" (106 : Nat) ({ cls := "HookSwings$Tokens", name := "<init>", desc := "([BI)V" } : Jvm.MethodName)) ∈ lw_all := lw_g (lw_at lw_m1 196 rfl) rfl
theorem q354 : (Jvm.Cond.methodLink "HookSwings" (109 : Nat) ({ cls := "HookSwings$Tokens", name := "read", desc := "()LHookSwings$Text;" } : Jvm.MethodName)) ∈ lw_all := lw_g (lw_at lw_m1 225 rfl) rfl
theorem q394 : (Jvm.Cond.fieldLinkNest "HookSwings" (157 : Nat) "HookSwings$Text" "law" "[LHookSwings$Sum;" "HookSwings") ∈ lw_tbl := lw_at lw_m2 25 rfl
theorem q398 : (Jvm.Cond.fieldLinkNest "HookSwings" (273 : Nat) "HookSwings$Text" "doings" "Ljava/util/ArrayList;" "HookSwings") ∈ lw_tbl := lw_at lw_m2 29 rfl
theorem q524 : (Jvm.Cond.fieldLinkNest "HookSwings" (115 : Nat) "HookSwings$Wrong" "fault" "I" "HookSwings") ∈ lw_tbl := lw_at lw_m2 155 rfl
theorem q526 : (Jvm.Cond.fieldLinkNest "HookSwings" (116 : Nat) "HookSwings$Wrong" "place" "I" "HookSwings") ∈ lw_tbl := lw_at lw_m2 157 rfl
theorem q676 : (Jvm.Cond.selects "HookSwings" ({ cls := "java/lang/Object", name := "getClass", desc := "()Ljava/lang/Class;" } : Jvm.MethodName) ({ cls := "java/lang/Object", name := "getClass", desc := "()Ljava/lang/Class;" } : Jvm.MethodName)) ∈ lw_all := lw_g (lw_at lw_m3 67 rfl) rfl
theorem q865 : (Jvm.Cond.instanceMethod ({ cls := "HookSwings", name := "fault", desc := "(I)I" } : Jvm.MethodName)) ∈ lw_all := lw_g (lw_at lw_m4 16 rfl) rfl
theorem q866 : (Jvm.Cond.selects "HookSwings" ({ cls := "HookSwings", name := "fault", desc := "(I)I" } : Jvm.MethodName) ({ cls := "HookSwings", name := "fault", desc := "(I)I" } : Jvm.MethodName)) ∈ lw_all := lw_g (lw_at lw_m4 17 rfl) rfl
theorem q867 : (Jvm.Cond.code ({ cls := "HookSwings", name := "fault", desc := "(I)I" } : Jvm.MethodName) prog_1_method_12_code (2 : Nat) (Option.some Jvm.ClassFile.FieldType.int)) ∈ lw_all := lw_g (lw_at lw_m4 18 rfl) rfl
theorem q869 : (Jvm.Cond.instanceMethod ({ cls := "HookSwings", name := "by", desc := "(I)Z" } : Jvm.MethodName)) ∈ lw_all := lw_g (lw_at lw_m4 20 rfl) rfl
theorem q870 : (Jvm.Cond.selects "HookSwings" ({ cls := "HookSwings", name := "by", desc := "(I)Z" } : Jvm.MethodName) ({ cls := "HookSwings", name := "by", desc := "(I)Z" } : Jvm.MethodName)) ∈ lw_all := lw_g (lw_at lw_m4 21 rfl) rfl
theorem q871 : (Jvm.Cond.code ({ cls := "HookSwings", name := "by", desc := "(I)Z" } : Jvm.MethodName) prog_1_method_14_code (2 : Nat) (Option.some Jvm.ClassFile.FieldType.boolean)) ∈ lw_all := lw_g (lw_at lw_m4 22 rfl) rfl
theorem q872 : (Jvm.Cond.methodLink "HookSwings" (119 : Nat) ({ cls := "HookSwings", name := "isText", desc := "(I)Z" } : Jvm.MethodName)) ∈ lw_all := lw_g (lw_at lw_m4 23 rfl) rfl
theorem q873 : (Jvm.Cond.privateMethod ({ cls := "HookSwings", name := "isText", desc := "(I)Z" } : Jvm.MethodName)) ∈ lw_tbl := lw_at lw_m4 24 rfl
theorem q874 : (Jvm.Cond.instanceMethod ({ cls := "HookSwings", name := "isText", desc := "(I)Z" } : Jvm.MethodName)) ∈ lw_all := lw_g (lw_at lw_m4 25 rfl) rfl
theorem q875 : (Jvm.Cond.code ({ cls := "HookSwings", name := "isText", desc := "(I)Z" } : Jvm.MethodName) prog_1_method_13_code (2 : Nat) (Option.some Jvm.ClassFile.FieldType.boolean)) ∈ lw_all := lw_g (lw_at lw_m4 26 rfl) rfl
theorem q877 : (Jvm.Cond.instanceMethod ({ cls := "HookSwings", name := "move", desc := "(I)I" } : Jvm.MethodName)) ∈ lw_all := lw_g (lw_at lw_m4 28 rfl) rfl
theorem q878 : (Jvm.Cond.selects "HookSwings" ({ cls := "HookSwings", name := "move", desc := "(I)I" } : Jvm.MethodName) ({ cls := "HookSwings", name := "move", desc := "(I)I" } : Jvm.MethodName)) ∈ lw_all := lw_g (lw_at lw_m4 29 rfl) rfl
theorem q879 : (Jvm.Cond.code ({ cls := "HookSwings", name := "move", desc := "(I)I" } : Jvm.MethodName) prog_1_method_30_code (2 : Nat) (Option.some Jvm.ClassFile.FieldType.int)) ∈ lw_all := lw_g (lw_at lw_m4 30 rfl) rfl
theorem q880 : (Jvm.Cond.methodLink "HookSwings" (200 : Nat) ({ cls := "HookSwings$State", name := "keeps", desc := "()V" } : Jvm.MethodName)) ∈ lw_all := lw_g (lw_at lw_m4 31 rfl) rfl
theorem q884 : (Jvm.Cond.methodLink "HookSwings" (203 : Nat) ({ cls := "HookSwings", name := "tenth", desc := "([II)V" } : Jvm.MethodName)) ∈ lw_all := lw_g (lw_at lw_m4 35 rfl) rfl
theorem q885 : (Jvm.Cond.privateMethod ({ cls := "HookSwings", name := "tenth", desc := "([II)V" } : Jvm.MethodName)) ∈ lw_tbl := lw_at lw_m4 36 rfl
theorem q886 : (Jvm.Cond.instanceMethod ({ cls := "HookSwings", name := "tenth", desc := "([II)V" } : Jvm.MethodName)) ∈ lw_all := lw_g (lw_at lw_m4 37 rfl) rfl
theorem q887 : (Jvm.Cond.code ({ cls := "HookSwings", name := "tenth", desc := "([II)V" } : Jvm.MethodName) prog_1_method_25_code (5 : Nat) (Option.none : Option Jvm.ClassFile.FieldType)) ∈ lw_all := lw_g (lw_at lw_m4 38 rfl) rfl
theorem q888 : (Jvm.Cond.methodLink "HookSwings" (177 : Nat) ({ cls := "HookSwings", name := "names", desc := "([I)V" } : Jvm.MethodName)) ∈ lw_all := lw_g (lw_at lw_m4 39 rfl) rfl
theorem q889 : (Jvm.Cond.privateMethod ({ cls := "HookSwings", name := "names", desc := "([I)V" } : Jvm.MethodName)) ∈ lw_tbl := lw_at lw_m4 40 rfl
theorem q890 : (Jvm.Cond.instanceMethod ({ cls := "HookSwings", name := "names", desc := "([I)V" } : Jvm.MethodName)) ∈ lw_all := lw_g (lw_at lw_m4 41 rfl) rfl
theorem q891 : (Jvm.Cond.code ({ cls := "HookSwings", name := "names", desc := "([I)V" } : Jvm.MethodName) prog_1_method_19_code (2 : Nat) (Option.none : Option Jvm.ClassFile.FieldType)) ∈ lw_all := lw_g (lw_at lw_m4 42 rfl) rfl
theorem q892 : (Jvm.Cond.methodLink "HookSwings" (146 : Nat) ({ cls := "HookSwings", name := "firstKept", desc := "([I)I" } : Jvm.MethodName)) ∈ lw_all := lw_g (lw_at lw_m4 43 rfl) rfl
theorem q893 : (Jvm.Cond.static ({ cls := "HookSwings", name := "firstKept", desc := "([I)I" } : Jvm.MethodName)) ∈ lw_all := lw_g (lw_at lw_m4 44 rfl) rfl
theorem q894 : (Jvm.Cond.code ({ cls := "HookSwings", name := "firstKept", desc := "([I)I" } : Jvm.MethodName) prog_1_method_18_code (1 : Nat) (Option.some Jvm.ClassFile.FieldType.int)) ∈ lw_all := lw_g (lw_at lw_m4 45 rfl) rfl
theorem q895 : (Jvm.Cond.methodLink "HookSwings" (143 : Nat) ({ cls := "java/lang/Math", name := "max", desc := "(II)I" } : Jvm.MethodName)) ∈ lw_all := lw_g (lw_at lw_m4 46 rfl) rfl
theorem q896 : (Jvm.Cond.methodLink "HookSwings" (150 : Nat) ({ cls := "HookSwings", name := "namesAgo", desc := "([III)V" } : Jvm.MethodName)) ∈ lw_all := lw_g (lw_at lw_m4 47 rfl) rfl
theorem q897 : (Jvm.Cond.privateMethod ({ cls := "HookSwings", name := "namesAgo", desc := "([III)V" } : Jvm.MethodName)) ∈ lw_tbl := lw_at lw_m4 48 rfl
theorem q898 : (Jvm.Cond.instanceMethod ({ cls := "HookSwings", name := "namesAgo", desc := "([III)V" } : Jvm.MethodName)) ∈ lw_all := lw_g (lw_at lw_m4 49 rfl) rfl
theorem q899 : (Jvm.Cond.code ({ cls := "HookSwings", name := "namesAgo", desc := "([III)V" } : Jvm.MethodName) prog_1_method_17_code (6 : Nat) (Option.none : Option Jvm.ClassFile.FieldType)) ∈ lw_all := lw_g (lw_at lw_m4 50 rfl) rfl
theorem q900 : (Jvm.Cond.methodLink "HookSwings" (127 : Nat) ({ cls := "java/util/Arrays", name := "fill", desc := "([IIII)V" } : Jvm.MethodName)) ∈ lw_all := lw_g (lw_at lw_m4 51 rfl) rfl
theorem q906 : (Jvm.Cond.methodLink "HookSwings" (133 : Nat) ({ cls := "HookSwings", name := "tenthAt", desc := "(I)I" } : Jvm.MethodName)) ∈ lw_all := lw_g (lw_at lw_m4 57 rfl) rfl
theorem q907 : (Jvm.Cond.static ({ cls := "HookSwings", name := "tenthAt", desc := "(I)I" } : Jvm.MethodName)) ∈ lw_all := lw_g (lw_at lw_m4 58 rfl) rfl
theorem q908 : (Jvm.Cond.code ({ cls := "HookSwings", name := "tenthAt", desc := "(I)I" } : Jvm.MethodName) prog_1_method_16_code (1 : Nat) (Option.some Jvm.ClassFile.FieldType.int)) ∈ lw_all := lw_g (lw_at lw_m4 59 rfl) rfl
theorem q909 : (Jvm.Cond.methodLink "HookSwings" (137 : Nat) ({ cls := "java/lang/System", name := "arraycopy", desc := "(Ljava/lang/Object;ILjava/lang/Object;II)V" } : Jvm.MethodName)) ∈ lw_all := lw_g (lw_at lw_m4 60 rfl) rfl
theorem q910 : (Jvm.Cond.methodLink "HookSwings" (173 : Nat) ({ cls := "HookSwings", name := "law", desc := "(IIII)I" } : Jvm.MethodName)) ∈ lw_all := lw_g (lw_at lw_m4 61 rfl) rfl
theorem q911 : (Jvm.Cond.privateMethod ({ cls := "HookSwings", name := "law", desc := "(IIII)I" } : Jvm.MethodName)) ∈ lw_tbl := lw_at lw_m4 62 rfl
theorem q912 : (Jvm.Cond.instanceMethod ({ cls := "HookSwings", name := "law", desc := "(IIII)I" } : Jvm.MethodName)) ∈ lw_all := lw_g (lw_at lw_m4 63 rfl) rfl
theorem q913 : (Jvm.Cond.code ({ cls := "HookSwings", name := "law", desc := "(IIII)I" } : Jvm.MethodName) prog_1_method_20_code (6 : Nat) (Option.some Jvm.ClassFile.FieldType.int)) ∈ lw_all := lw_g (lw_at lw_m4 64 rfl) rfl
theorem q914 : (Jvm.Cond.methodLink "HookSwings" (154 : Nat) ({ cls := "HookSwings", name := "rules", desc := "()LHookSwings$Text;" } : Jvm.MethodName)) ∈ lw_all := lw_g (lw_at lw_m4 65 rfl) rfl
theorem q915 : (Jvm.Cond.privateMethod ({ cls := "HookSwings", name := "rules", desc := "()LHookSwings$Text;" } : Jvm.MethodName)) ∈ lw_tbl := lw_at lw_m4 66 rfl
theorem q916 : (Jvm.Cond.instanceMethod ({ cls := "HookSwings", name := "rules", desc := "()LHookSwings$Text;" } : Jvm.MethodName)) ∈ lw_all := lw_g (lw_at lw_m4 67 rfl) rfl
theorem q917 : (Jvm.Cond.code ({ cls := "HookSwings", name := "rules", desc := "()LHookSwings$Text;" } : Jvm.MethodName) prog_1_method_15_code (1 : Nat) (Option.some (Jvm.ClassFile.FieldType.object "HookSwings$Text"))) ∈ lw_all := lw_g (lw_at lw_m4 68 rfl) rfl
theorem q918 : (Jvm.Cond.fieldLink "HookSwings" (123 : Nat) "HookSwings" "NOTHING" "LHookSwings$Text;") ∈ lw_all := lw_g (lw_at lw_m4 69 rfl) rfl
theorem q919 : (Jvm.Cond.laysStatic "HookSwings" "NOTHING" "LHookSwings$Text;") ∈ lw_tbl := lw_at lw_m4 70 rfl
theorem q920 : (Jvm.Cond.interfaceEntry "HookSwings" (163 : Nat)) ∈ lw_tbl := lw_at lw_m4 71 rfl
theorem q921 : (Jvm.Cond.methodLink "HookSwings" (163 : Nat) ({ cls := "HookSwings$Sum", name := "of", desc := "([I)J" } : Jvm.MethodName)) ∈ lw_all := lw_g (lw_at lw_m4 72 rfl) rfl
theorem q1018 : (Jvm.Cond.methodLink "HookSwings" (169 : Nat) ({ cls := "HookSwings", name := "held", desc := "(JII)I" } : Jvm.MethodName)) ∈ lw_all := lw_g (lw_at lw_m4 169 rfl) rfl
theorem q1019 : (Jvm.Cond.static ({ cls := "HookSwings", name := "held", desc := "(JII)I" } : Jvm.MethodName)) ∈ lw_all := lw_g (lw_at lw_m4 170 rfl) rfl
theorem q1020 : (Jvm.Cond.code ({ cls := "HookSwings", name := "held", desc := "(JII)I" } : Jvm.MethodName) prog_1_method_3_code (4 : Nat) (Option.some Jvm.ClassFile.FieldType.int)) ∈ lw_all := lw_g (lw_at lw_m4 171 rfl) rfl
theorem q1021 : (Jvm.Cond.methodLink "HookSwings" (3 : Nat) ({ cls := "java/lang/Math", name := "min", desc := "(JJ)J" } : Jvm.MethodName)) ∈ lw_all := lw_g (lw_at lw_m4 172 rfl) rfl
theorem q1022 : (Jvm.Cond.methodLink "HookSwings" (9 : Nat) ({ cls := "java/lang/Math", name := "max", desc := "(JJ)J" } : Jvm.MethodName)) ∈ lw_all := lw_g (lw_at lw_m4 173 rfl) rfl
theorem q1023 : (Jvm.Cond.methodLink "HookSwings" (184 : Nat) ({ cls := "HookSwings", name := "swings", desc := "([I)V" } : Jvm.MethodName)) ∈ lw_all := lw_g (lw_at lw_m4 174 rfl) rfl
theorem q1024 : (Jvm.Cond.privateMethod ({ cls := "HookSwings", name := "swings", desc := "([I)V" } : Jvm.MethodName)) ∈ lw_tbl := lw_at lw_m4 175 rfl
theorem q1025 : (Jvm.Cond.instanceMethod ({ cls := "HookSwings", name := "swings", desc := "([I)V" } : Jvm.MethodName)) ∈ lw_all := lw_g (lw_at lw_m4 176 rfl) rfl
theorem q1026 : (Jvm.Cond.code ({ cls := "HookSwings", name := "swings", desc := "([I)V" } : Jvm.MethodName) prog_1_method_26_code (3 : Nat) (Option.none : Option Jvm.ClassFile.FieldType)) ∈ lw_all := lw_g (lw_at lw_m4 177 rfl) rfl
theorem q1027 : (Jvm.Cond.methodLink "HookSwings" (191 : Nat) ({ cls := "HookSwings", name := "blows", desc := "([I)V" } : Jvm.MethodName)) ∈ lw_all := lw_g (lw_at lw_m4 178 rfl) rfl
theorem q1028 : (Jvm.Cond.privateMethod ({ cls := "HookSwings", name := "blows", desc := "([I)V" } : Jvm.MethodName)) ∈ lw_tbl := lw_at lw_m4 179 rfl
theorem q1029 : (Jvm.Cond.instanceMethod ({ cls := "HookSwings", name := "blows", desc := "([I)V" } : Jvm.MethodName)) ∈ lw_all := lw_g (lw_at lw_m4 180 rfl) rfl
theorem q1030 : (Jvm.Cond.code ({ cls := "HookSwings", name := "blows", desc := "([I)V" } : Jvm.MethodName) prog_1_method_27_code (2 : Nat) (Option.none : Option Jvm.ClassFile.FieldType)) ∈ lw_all := lw_g (lw_at lw_m4 181 rfl) rfl
theorem q1031 : (Jvm.Cond.methodLink "HookSwings" (194 : Nat) ({ cls := "HookSwings", name := "draws", desc := "([I)V" } : Jvm.MethodName)) ∈ lw_all := lw_g (lw_at lw_m4 182 rfl) rfl
theorem q1032 : (Jvm.Cond.static ({ cls := "HookSwings", name := "draws", desc := "([I)V" } : Jvm.MethodName)) ∈ lw_all := lw_g (lw_at lw_m4 183 rfl) rfl
theorem q1033 : (Jvm.Cond.code ({ cls := "HookSwings", name := "draws", desc := "([I)V" } : Jvm.MethodName) prog_1_method_28_code (1 : Nat) (Option.none : Option Jvm.ClassFile.FieldType)) ∈ lw_all := lw_g (lw_at lw_m4 184 rfl) rfl
theorem q1035 : (Jvm.Cond.instanceMethod ({ cls := "HookSwings", name := "run", desc := "(I)I" } : Jvm.MethodName)) ∈ lw_all := lw_g (lw_at lw_m4 186 rfl) rfl
theorem q1036 : (Jvm.Cond.selects "HookSwings" ({ cls := "HookSwings", name := "run", desc := "(I)I" } : Jvm.MethodName) ({ cls := "HookSwings", name := "run", desc := "(I)I" } : Jvm.MethodName)) ∈ lw_all := lw_g (lw_at lw_m4 187 rfl) rfl
theorem q1037 : (Jvm.Cond.code ({ cls := "HookSwings", name := "run", desc := "(I)I" } : Jvm.MethodName) prog_1_method_31_code (3 : Nat) (Option.some Jvm.ClassFile.FieldType.int)) ∈ lw_all := lw_g (lw_at lw_m4 188 rfl) rfl
theorem q1038 : (Jvm.Cond.methodLink "HookSwings" (207 : Nat) ({ cls := "HookSwings", name := "handOf", desc := "([ILHookSwings$Text;)I" } : Jvm.MethodName)) ∈ lw_all := lw_g (lw_at lw_m4 189 rfl) rfl
theorem q1039 : (Jvm.Cond.privateMethod ({ cls := "HookSwings", name := "handOf", desc := "([ILHookSwings$Text;)I" } : Jvm.MethodName)) ∈ lw_tbl := lw_at lw_m4 190 rfl
theorem q1040 : (Jvm.Cond.instanceMethod ({ cls := "HookSwings", name := "handOf", desc := "([ILHookSwings$Text;)I" } : Jvm.MethodName)) ∈ lw_all := lw_g (lw_at lw_m4 191 rfl) rfl
theorem q1041 : (Jvm.Cond.code ({ cls := "HookSwings", name := "handOf", desc := "([ILHookSwings$Text;)I" } : Jvm.MethodName) prog_1_method_24_code (3 : Nat) (Option.some Jvm.ClassFile.FieldType.int)) ∈ lw_all := lw_g (lw_at lw_m4 192 rfl) rfl
theorem q1042 : (Jvm.Cond.methodLink "HookSwings" (180 : Nat) ({ cls := "HookSwings", name := "commandBy", desc := "(LHookSwings$Text;)I" } : Jvm.MethodName)) ∈ lw_all := lw_g (lw_at lw_m4 193 rfl) rfl
theorem q1043 : (Jvm.Cond.privateMethod ({ cls := "HookSwings", name := "commandBy", desc := "(LHookSwings$Text;)I" } : Jvm.MethodName)) ∈ lw_tbl := lw_at lw_m4 194 rfl
theorem q1044 : (Jvm.Cond.instanceMethod ({ cls := "HookSwings", name := "commandBy", desc := "(LHookSwings$Text;)I" } : Jvm.MethodName)) ∈ lw_all := lw_g (lw_at lw_m4 195 rfl) rfl
theorem q1045 : (Jvm.Cond.code ({ cls := "HookSwings", name := "commandBy", desc := "(LHookSwings$Text;)I" } : Jvm.MethodName) prog_1_method_23_code (4 : Nat) (Option.some Jvm.ClassFile.FieldType.int)) ∈ lw_all := lw_g (lw_at lw_m4 196 rfl) rfl
theorem q1047 : (Jvm.Cond.instanceMethod ({ cls := "HookSwings", name := "hoist", desc := "(I)Z" } : Jvm.MethodName)) ∈ lw_all := lw_g (lw_at lw_m4 198 rfl) rfl
theorem q1048 : (Jvm.Cond.selects "HookSwings" ({ cls := "HookSwings", name := "hoist", desc := "(I)Z" } : Jvm.MethodName) ({ cls := "HookSwings", name := "hoist", desc := "(I)Z" } : Jvm.MethodName)) ∈ lw_all := lw_g (lw_at lw_m4 199 rfl) rfl
theorem q1049 : (Jvm.Cond.code ({ cls := "HookSwings", name := "hoist", desc := "(I)Z" } : Jvm.MethodName) prog_1_method_33_code (2 : Nat) (Option.some Jvm.ClassFile.FieldType.boolean)) ∈ lw_all := lw_g (lw_at lw_m4 200 rfl) rfl
theorem q1050 : (Jvm.Cond.methodLink "HookSwings" (211 : Nat) ({ cls := "HookSwings", name := "sets", desc := "(II)Z" } : Jvm.MethodName)) ∈ lw_all := lw_g (lw_at lw_m4 201 rfl) rfl
theorem q1051 : (Jvm.Cond.privateMethod ({ cls := "HookSwings", name := "sets", desc := "(II)Z" } : Jvm.MethodName)) ∈ lw_tbl := lw_at lw_m4 202 rfl
theorem q1052 : (Jvm.Cond.instanceMethod ({ cls := "HookSwings", name := "sets", desc := "(II)Z" } : Jvm.MethodName)) ∈ lw_all := lw_g (lw_at lw_m4 203 rfl) rfl
theorem q1053 : (Jvm.Cond.code ({ cls := "HookSwings", name := "sets", desc := "(II)Z" } : Jvm.MethodName) prog_1_method_32_code (3 : Nat) (Option.some Jvm.ClassFile.FieldType.boolean)) ∈ lw_all := lw_g (lw_at lw_m4 204 rfl) rfl
theorem q1055 : (Jvm.Cond.instanceMethod ({ cls := "HookSwings", name := "aim", desc := "(I)Z" } : Jvm.MethodName)) ∈ lw_all := lw_g (lw_at lw_m4 206 rfl) rfl
theorem q1056 : (Jvm.Cond.selects "HookSwings" ({ cls := "HookSwings", name := "aim", desc := "(I)Z" } : Jvm.MethodName) ({ cls := "HookSwings", name := "aim", desc := "(I)Z" } : Jvm.MethodName)) ∈ lw_all := lw_g (lw_at lw_m4 207 rfl) rfl
theorem q1057 : (Jvm.Cond.code ({ cls := "HookSwings", name := "aim", desc := "(I)Z" } : Jvm.MethodName) prog_1_method_34_code (2 : Nat) (Option.some Jvm.ClassFile.FieldType.boolean)) ∈ lw_all := lw_g (lw_at lw_m4 208 rfl) rfl
theorem q1059 : (Jvm.Cond.instanceMethod ({ cls := "HookSwings", name := "hook", desc := "(I)Z" } : Jvm.MethodName)) ∈ lw_all := lw_g (lw_at lw_m4 210 rfl) rfl
theorem q1060 : (Jvm.Cond.selects "HookSwings" ({ cls := "HookSwings", name := "hook", desc := "(I)Z" } : Jvm.MethodName) ({ cls := "HookSwings", name := "hook", desc := "(I)Z" } : Jvm.MethodName)) ∈ lw_all := lw_g (lw_at lw_m4 211 rfl) rfl
theorem q1061 : (Jvm.Cond.code ({ cls := "HookSwings", name := "hook", desc := "(I)Z" } : Jvm.MethodName) prog_1_method_35_code (2 : Nat) (Option.some Jvm.ClassFile.FieldType.boolean)) ∈ lw_all := lw_g (lw_at lw_m4 212 rfl) rfl
theorem q1062 : (Jvm.Cond.methodLink "HookSwings" (215 : Nat) ({ cls := "HookSwings", name := "isOrder", desc := "(I)Z" } : Jvm.MethodName)) ∈ lw_all := lw_g (lw_at lw_m4 213 rfl) rfl
theorem q1063 : (Jvm.Cond.privateMethod ({ cls := "HookSwings", name := "isOrder", desc := "(I)Z" } : Jvm.MethodName)) ∈ lw_tbl := lw_at lw_m4 214 rfl
theorem q1064 : (Jvm.Cond.instanceMethod ({ cls := "HookSwings", name := "isOrder", desc := "(I)Z" } : Jvm.MethodName)) ∈ lw_all := lw_g (lw_at lw_m4 215 rfl) rfl
theorem q1065 : (Jvm.Cond.code ({ cls := "HookSwings", name := "isOrder", desc := "(I)Z" } : Jvm.MethodName) prog_1_method_5_code (2 : Nat) (Option.some Jvm.ClassFile.FieldType.boolean)) ∈ lw_all := lw_g (lw_at lw_m4 216 rfl) rfl
theorem q1066 : (Jvm.Cond.methodLink "HookSwings" (218 : Nat) ({ cls := "HookSwings", name := "has", desc := "(II)Z" } : Jvm.MethodName)) ∈ lw_all := lw_g (lw_at lw_m4 217 rfl) rfl
theorem q1067 : (Jvm.Cond.static ({ cls := "HookSwings", name := "has", desc := "(II)Z" } : Jvm.MethodName)) ∈ lw_all := lw_g (lw_at lw_m4 218 rfl) rfl
theorem q1068 : (Jvm.Cond.code ({ cls := "HookSwings", name := "has", desc := "(II)Z" } : Jvm.MethodName) prog_1_method_2_code (2 : Nat) (Option.some Jvm.ClassFile.FieldType.boolean)) ∈ lw_all := lw_g (lw_at lw_m4 219 rfl) rfl
theorem q1070 : (Jvm.Cond.instanceMethod ({ cls := "HookSwings", name := "land", desc := "()I" } : Jvm.MethodName)) ∈ lw_all := lw_g (lw_at lw_m4 221 rfl) rfl
theorem q1071 : (Jvm.Cond.selects "HookSwings" ({ cls := "HookSwings", name := "land", desc := "()I" } : Jvm.MethodName) ({ cls := "HookSwings", name := "land", desc := "()I" } : Jvm.MethodName)) ∈ lw_all := lw_g (lw_at lw_m4 222 rfl) rfl
theorem q1072 : (Jvm.Cond.code ({ cls := "HookSwings", name := "land", desc := "()I" } : Jvm.MethodName) prog_1_method_37_code (2 : Nat) (Option.some Jvm.ClassFile.FieldType.int)) ∈ lw_all := lw_g (lw_at lw_m4 223 rfl) rfl
theorem q1073 : (Jvm.Cond.methodLink "HookSwings" (221 : Nat) ({ cls := "HookSwings", name := "hangsStill", desc := "([I)Z" } : Jvm.MethodName)) ∈ lw_all := lw_g (lw_at lw_m4 224 rfl) rfl
theorem q1074 : (Jvm.Cond.privateMethod ({ cls := "HookSwings", name := "hangsStill", desc := "([I)Z" } : Jvm.MethodName)) ∈ lw_tbl := lw_at lw_m4 225 rfl
theorem q1075 : (Jvm.Cond.instanceMethod ({ cls := "HookSwings", name := "hangsStill", desc := "([I)Z" } : Jvm.MethodName)) ∈ lw_all := lw_g (lw_at lw_m4 226 rfl) rfl
theorem q1076 : (Jvm.Cond.code ({ cls := "HookSwings", name := "hangsStill", desc := "([I)Z" } : Jvm.MethodName) prog_1_method_29_code (3 : Nat) (Option.some Jvm.ClassFile.FieldType.boolean)) ∈ lw_all := lw_g (lw_at lw_m4 227 rfl) rfl
theorem q1077 : (Jvm.Cond.methodLink "HookSwings" (197 : Nat) ({ cls := "java/lang/Math", name := "abs", desc := "(I)I" } : Jvm.MethodName)) ∈ lw_all := lw_g (lw_at lw_m4 228 rfl) rfl
theorem q1080 : (Jvm.Cond.methodLink "HookSwings" (225 : Nat) ({ cls := "HookSwings", name := "writes", desc := "(I)V" } : Jvm.MethodName)) ∈ lw_all := lw_g (lw_at lw_m4 231 rfl) rfl
theorem q1081 : (Jvm.Cond.privateMethod ({ cls := "HookSwings", name := "writes", desc := "(I)V" } : Jvm.MethodName)) ∈ lw_tbl := lw_at lw_m4 232 rfl
theorem q1082 : (Jvm.Cond.instanceMethod ({ cls := "HookSwings", name := "writes", desc := "(I)V" } : Jvm.MethodName)) ∈ lw_all := lw_g (lw_at lw_m4 233 rfl) rfl
theorem q1083 : (Jvm.Cond.code ({ cls := "HookSwings", name := "writes", desc := "(I)V" } : Jvm.MethodName) prog_1_method_36_code (3 : Nat) (Option.none : Option Jvm.ClassFile.FieldType)) ∈ lw_all := lw_g (lw_at lw_m4 234 rfl) rfl
theorem q1085 : (Jvm.Cond.instanceMethod ({ cls := "HookSwings", name := "played", desc := "(I)I" } : Jvm.MethodName)) ∈ lw_all := lw_g (lw_at lw_m4 236 rfl) rfl
theorem q1086 : (Jvm.Cond.selects "HookSwings" ({ cls := "HookSwings", name := "played", desc := "(I)I" } : Jvm.MethodName) ({ cls := "HookSwings", name := "played", desc := "(I)I" } : Jvm.MethodName)) ∈ lw_all := lw_g (lw_at lw_m4 237 rfl) rfl
theorem q1087 : (Jvm.Cond.code ({ cls := "HookSwings", name := "played", desc := "(I)I" } : Jvm.MethodName) prog_1_method_40_code (4 : Nat) (Option.some Jvm.ClassFile.FieldType.int)) ∈ lw_all := lw_g (lw_at lw_m4 238 rfl) rfl
theorem q1088 : (Jvm.Cond.methodLink "HookSwings" (277 : Nat) ({ cls := "java/util/ArrayList", name := "size", desc := "()I" } : Jvm.MethodName)) ∈ lw_all := lw_g (lw_at lw_m4 239 rfl) rfl
theorem q1089 : (Jvm.Cond.methodLink "HookSwings" (282 : Nat) ({ cls := "java/util/ArrayList", name := "get", desc := "(I)Ljava/lang/Object;" } : Jvm.MethodName)) ∈ lw_all := lw_g (lw_at lw_m5 0 rfl) rfl
theorem q1090 : (Jvm.Cond.classLink "HookSwings" (232 : Nat) "HookSwings$Doing") ∈ lw_all := lw_g (lw_at lw_m5 1 rfl) rfl
theorem q1091 : (Jvm.Cond.methodLink "HookSwings" (286 : Nat) ({ cls := "HookSwings", name := "does", desc := "(LHookSwings$Doing;)Z" } : Jvm.MethodName)) ∈ lw_all := lw_g (lw_at lw_m5 2 rfl) rfl
theorem q1092 : (Jvm.Cond.privateMethod ({ cls := "HookSwings", name := "does", desc := "(LHookSwings$Doing;)Z" } : Jvm.MethodName)) ∈ lw_tbl := lw_at lw_m5 3 rfl
theorem q1093 : (Jvm.Cond.instanceMethod ({ cls := "HookSwings", name := "does", desc := "(LHookSwings$Doing;)Z" } : Jvm.MethodName)) ∈ lw_all := lw_g (lw_at lw_m5 4 rfl) rfl
theorem q1094 : (Jvm.Cond.code ({ cls := "HookSwings", name := "does", desc := "(LHookSwings$Doing;)Z" } : Jvm.MethodName) prog_1_method_39_code (2 : Nat) (Option.some Jvm.ClassFile.FieldType.boolean)) ∈ lw_all := lw_g (lw_at lw_m5 5 rfl) rfl
theorem q1095 : (Jvm.Cond.methodLink "HookSwings" (231 : Nat) ({ cls := "HookSwings$Doing", name := "sort", desc := "()I" } : Jvm.MethodName)) ∈ lw_all := lw_g (lw_at lw_m5 6 rfl) rfl
theorem q1099 : (Jvm.Cond.methodLink "HookSwings" (237 : Nat) ({ cls := "HookSwings$Doing", name := "a", desc := "()I" } : Jvm.MethodName)) ∈ lw_all := lw_g (lw_at lw_m5 10 rfl) rfl
theorem q1103 : (Jvm.Cond.methodLink "HookSwings" (240 : Nat) ({ cls := "HookSwings$Doing", name := "b", desc := "()I" } : Jvm.MethodName)) ∈ lw_all := lw_g (lw_at lw_m5 14 rfl) rfl
theorem q1107 : (Jvm.Cond.methodLink "HookSwings" (243 : Nat) ({ cls := "HookSwings$Doing", name := "c", desc := "()I" } : Jvm.MethodName)) ∈ lw_all := lw_g (lw_at lw_m5 18 rfl) rfl
theorem q1111 : (Jvm.Cond.methodLink "HookSwings" (246 : Nat) ({ cls := "HookSwings$Doing", name := "d", desc := "()I" } : Jvm.MethodName)) ∈ lw_all := lw_g (lw_at lw_m5 22 rfl) rfl
theorem q1115 : (Jvm.Cond.methodLink "HookSwings" (249 : Nat) ({ cls := "HookSwings$Doing", name := "e", desc := "()I" } : Jvm.MethodName)) ∈ lw_all := lw_g (lw_at lw_m5 26 rfl) rfl
theorem q1119 : (Jvm.Cond.methodLink "HookSwings" (252 : Nat) ({ cls := "HookSwings", name := "order", desc := "(IIIII)I" } : Jvm.MethodName)) ∈ lw_all := lw_g (lw_at lw_m5 30 rfl) rfl
theorem q1120 : (Jvm.Cond.methodLink "HookSwings" (255 : Nat) ({ cls := "HookSwings", name := "move", desc := "(I)I" } : Jvm.MethodName)) ∈ lw_all := lw_g (lw_at lw_m5 31 rfl) rfl
theorem q1121 : (Jvm.Cond.methodLink "HookSwings" (258 : Nat) ({ cls := "HookSwings", name := "runs", desc := "(I)Z" } : Jvm.MethodName)) ∈ lw_all := lw_g (lw_at lw_m5 32 rfl) rfl
theorem q1122 : (Jvm.Cond.privateMethod ({ cls := "HookSwings", name := "runs", desc := "(I)Z" } : Jvm.MethodName)) ∈ lw_tbl := lw_at lw_m5 33 rfl
theorem q1123 : (Jvm.Cond.instanceMethod ({ cls := "HookSwings", name := "runs", desc := "(I)Z" } : Jvm.MethodName)) ∈ lw_all := lw_g (lw_at lw_m5 34 rfl) rfl
theorem q1124 : (Jvm.Cond.code ({ cls := "HookSwings", name := "runs", desc := "(I)Z" } : Jvm.MethodName) prog_1_method_38_code (3 : Nat) (Option.some Jvm.ClassFile.FieldType.boolean)) ∈ lw_all := lw_g (lw_at lw_m5 35 rfl) rfl
theorem q1125 : (Jvm.Cond.methodLink "HookSwings" (228 : Nat) ({ cls := "HookSwings", name := "run", desc := "(I)I" } : Jvm.MethodName)) ∈ lw_all := lw_g (lw_at lw_m5 36 rfl) rfl
theorem q1126 : (Jvm.Cond.methodLink "HookSwings" (261 : Nat) ({ cls := "HookSwings", name := "hoist", desc := "(I)Z" } : Jvm.MethodName)) ∈ lw_all := lw_g (lw_at lw_m5 37 rfl) rfl
theorem q1127 : (Jvm.Cond.methodLink "HookSwings" (264 : Nat) ({ cls := "HookSwings", name := "aim", desc := "(I)Z" } : Jvm.MethodName)) ∈ lw_all := lw_g (lw_at lw_m5 38 rfl) rfl
theorem q1128 : (Jvm.Cond.methodLink "HookSwings" (267 : Nat) ({ cls := "HookSwings", name := "hook", desc := "(I)Z" } : Jvm.MethodName)) ∈ lw_all := lw_g (lw_at lw_m5 39 rfl) rfl
theorem q1129 : (Jvm.Cond.methodLink "HookSwings" (270 : Nat) ({ cls := "HookSwings", name := "land", desc := "()I" } : Jvm.MethodName)) ∈ lw_all := lw_g (lw_at lw_m5 40 rfl) rfl
theorem q1130 : (Jvm.Cond.methodLink "HookSwings" (290 : Nat) ({ cls := "HookSwings$Doing", name := "number", desc := "()I" } : Jvm.MethodName)) ∈ lw_all := lw_g (lw_at lw_m5 41 rfl) rfl
theorem q1135 : (Jvm.Cond.instanceMethod ({ cls := "HookSwings", name := "storm", desc := "(II)I" } : Jvm.MethodName)) ∈ lw_all := lw_g (lw_at lw_m5 46 rfl) rfl
theorem q1136 : (Jvm.Cond.selects "HookSwings" ({ cls := "HookSwings", name := "storm", desc := "(II)I" } : Jvm.MethodName) ({ cls := "HookSwings", name := "storm", desc := "(II)I" } : Jvm.MethodName)) ∈ lw_all := lw_g (lw_at lw_m5 47 rfl) rfl
theorem q1137 : (Jvm.Cond.code ({ cls := "HookSwings", name := "storm", desc := "(II)I" } : Jvm.MethodName) prog_1_method_41_code (4 : Nat) (Option.some Jvm.ClassFile.FieldType.int)) ∈ lw_all := lw_g (lw_at lw_m5 48 rfl) rfl
theorem q1139 : (Jvm.Cond.instanceMethod ({ cls := "HookSwings", name := "undo", desc := "()I" } : Jvm.MethodName)) ∈ lw_all := lw_g (lw_at lw_m5 50 rfl) rfl
theorem q1140 : (Jvm.Cond.selects "HookSwings" ({ cls := "HookSwings", name := "undo", desc := "()I" } : Jvm.MethodName) ({ cls := "HookSwings", name := "undo", desc := "()I" } : Jvm.MethodName)) ∈ lw_all := lw_g (lw_at lw_m5 51 rfl) rfl
theorem q1141 : (Jvm.Cond.code ({ cls := "HookSwings", name := "undo", desc := "()I" } : Jvm.MethodName) prog_1_method_42_code (1 : Nat) (Option.some Jvm.ClassFile.FieldType.int)) ∈ lw_all := lw_g (lw_at lw_m5 52 rfl) rfl
theorem q1143 : (Jvm.Cond.instanceMethod ({ cls := "HookSwings", name := "jib", desc := "(I)I" } : Jvm.MethodName)) ∈ lw_all := lw_g (lw_at lw_m5 54 rfl) rfl
theorem q1144 : (Jvm.Cond.selects "HookSwings" ({ cls := "HookSwings", name := "jib", desc := "(I)I" } : Jvm.MethodName) ({ cls := "HookSwings", name := "jib", desc := "(I)I" } : Jvm.MethodName)) ∈ lw_all := lw_g (lw_at lw_m5 55 rfl) rfl
theorem q1145 : (Jvm.Cond.code ({ cls := "HookSwings", name := "jib", desc := "(I)I" } : Jvm.MethodName) prog_1_method_43_code (3 : Nat) (Option.some Jvm.ClassFile.FieldType.int)) ∈ lw_all := lw_g (lw_at lw_m5 56 rfl) rfl
theorem q1146 : (Jvm.Cond.constant "HookSwings" (296 : Nat) (-100000 : Int32)) ∈ lw_all := lw_g (lw_at lw_m5 57 rfl) rfl
theorem q1148 : (Jvm.Cond.instanceMethod ({ cls := "HookSwings", name := "ofOrder", desc := "(II)I" } : Jvm.MethodName)) ∈ lw_all := lw_g (lw_at lw_m5 59 rfl) rfl
theorem q1149 : (Jvm.Cond.selects "HookSwings" ({ cls := "HookSwings", name := "ofOrder", desc := "(II)I" } : Jvm.MethodName) ({ cls := "HookSwings", name := "ofOrder", desc := "(II)I" } : Jvm.MethodName)) ∈ lw_all := lw_g (lw_at lw_m5 60 rfl) rfl
theorem q1150 : (Jvm.Cond.code ({ cls := "HookSwings", name := "ofOrder", desc := "(II)I" } : Jvm.MethodName) prog_1_method_44_code (3 : Nat) (Option.some Jvm.ClassFile.FieldType.int)) ∈ lw_all := lw_g (lw_at lw_m5 61 rfl) rfl
theorem q1151 : (Jvm.Cond.methodLink "HookSwings" (297 : Nat) ({ cls := "HookSwings", name := "lastsOf", desc := "(I)I" } : Jvm.MethodName)) ∈ lw_all := lw_g (lw_at lw_m5 62 rfl) rfl
theorem q1152 : (Jvm.Cond.privateMethod ({ cls := "HookSwings", name := "lastsOf", desc := "(I)I" } : Jvm.MethodName)) ∈ lw_tbl := lw_at lw_m5 63 rfl
theorem q1153 : (Jvm.Cond.instanceMethod ({ cls := "HookSwings", name := "lastsOf", desc := "(I)I" } : Jvm.MethodName)) ∈ lw_all := lw_g (lw_at lw_m5 64 rfl) rfl
theorem q1154 : (Jvm.Cond.code ({ cls := "HookSwings", name := "lastsOf", desc := "(I)I" } : Jvm.MethodName) prog_1_method_22_code (2 : Nat) (Option.some Jvm.ClassFile.FieldType.int)) ∈ lw_all := lw_g (lw_at lw_m5 65 rfl) rfl
theorem q1155 : (Jvm.Cond.methodLink "HookSwings" (300 : Nat) ({ cls := "HookSwings", name := "holdsAt", desc := "(I)I" } : Jvm.MethodName)) ∈ lw_all := lw_g (lw_at lw_m5 66 rfl) rfl
theorem q1156 : (Jvm.Cond.privateMethod ({ cls := "HookSwings", name := "holdsAt", desc := "(I)I" } : Jvm.MethodName)) ∈ lw_tbl := lw_at lw_m5 67 rfl
theorem q1157 : (Jvm.Cond.instanceMethod ({ cls := "HookSwings", name := "holdsAt", desc := "(I)I" } : Jvm.MethodName)) ∈ lw_all := lw_g (lw_at lw_m5 68 rfl) rfl
theorem q1158 : (Jvm.Cond.code ({ cls := "HookSwings", name := "holdsAt", desc := "(I)I" } : Jvm.MethodName) prog_1_method_21_code (2 : Nat) (Option.some Jvm.ClassFile.FieldType.int)) ∈ lw_all := lw_g (lw_at lw_m5 69 rfl) rfl
theorem q1160 : (Jvm.Cond.instanceMethod ({ cls := "HookSwings", name := "ago", desc := "(II)I" } : Jvm.MethodName)) ∈ lw_all := lw_g (lw_at lw_m5 71 rfl) rfl
theorem q1161 : (Jvm.Cond.selects "HookSwings" ({ cls := "HookSwings", name := "ago", desc := "(II)I" } : Jvm.MethodName) ({ cls := "HookSwings", name := "ago", desc := "(II)I" } : Jvm.MethodName)) ∈ lw_all := lw_g (lw_at lw_m5 72 rfl) rfl
theorem q1162 : (Jvm.Cond.code ({ cls := "HookSwings", name := "ago", desc := "(II)I" } : Jvm.MethodName) prog_1_method_45_code (3 : Nat) (Option.some Jvm.ClassFile.FieldType.int)) ∈ lw_all := lw_g (lw_at lw_m5 73 rfl) rfl
theorem q1164 : (Jvm.Cond.instanceMethod ({ cls := "HookSwings", name := "foretold", desc := "(IZI)I" } : Jvm.MethodName)) ∈ lw_all := lw_g (lw_at lw_m5 75 rfl) rfl
theorem q1165 : (Jvm.Cond.selects "HookSwings" ({ cls := "HookSwings", name := "foretold", desc := "(IZI)I" } : Jvm.MethodName) ({ cls := "HookSwings", name := "foretold", desc := "(IZI)I" } : Jvm.MethodName)) ∈ lw_all := lw_g (lw_at lw_m5 76 rfl) rfl
theorem q1166 : (Jvm.Cond.code ({ cls := "HookSwings", name := "foretold", desc := "(IZI)I" } : Jvm.MethodName) prog_1_method_47_code (4 : Nat) (Option.some Jvm.ClassFile.FieldType.int)) ∈ lw_all := lw_g (lw_at lw_m5 77 rfl) rfl
theorem q1167 : (Jvm.Cond.methodLink "HookSwings" (309 : Nat) ({ cls := "HookSwings", name := "goes", desc := "(ILHookSwings$Text;I)V" } : Jvm.MethodName)) ∈ lw_all := lw_g (lw_at lw_m5 78 rfl) rfl
theorem q1168 : (Jvm.Cond.privateMethod ({ cls := "HookSwings", name := "goes", desc := "(ILHookSwings$Text;I)V" } : Jvm.MethodName)) ∈ lw_tbl := lw_at lw_m5 79 rfl
theorem q1169 : (Jvm.Cond.instanceMethod ({ cls := "HookSwings", name := "goes", desc := "(ILHookSwings$Text;I)V" } : Jvm.MethodName)) ∈ lw_all := lw_g (lw_at lw_m5 80 rfl) rfl
theorem q1170 : (Jvm.Cond.code ({ cls := "HookSwings", name := "goes", desc := "(ILHookSwings$Text;I)V" } : Jvm.MethodName) prog_1_method_46_code (5 : Nat) (Option.none : Option Jvm.ClassFile.FieldType)) ∈ lw_all := lw_g (lw_at lw_m5 81 rfl) rfl
theorem q1172 : (Jvm.Cond.instanceMethod ({ cls := "HookSwings", name := "soonest", desc := "(I)I" } : Jvm.MethodName)) ∈ lw_all := lw_g (lw_at lw_m5 83 rfl) rfl
theorem q1173 : (Jvm.Cond.selects "HookSwings" ({ cls := "HookSwings", name := "soonest", desc := "(I)I" } : Jvm.MethodName) ({ cls := "HookSwings", name := "soonest", desc := "(I)I" } : Jvm.MethodName)) ∈ lw_all := lw_g (lw_at lw_m5 84 rfl) rfl
theorem q1174 : (Jvm.Cond.code ({ cls := "HookSwings", name := "soonest", desc := "(I)I" } : Jvm.MethodName) prog_1_method_49_code (3 : Nat) (Option.some Jvm.ClassFile.FieldType.int)) ∈ lw_all := lw_g (lw_at lw_m5 85 rfl) rfl
theorem q1175 : (Jvm.Cond.methodLink "HookSwings" (313 : Nat) ({ cls := "HookSwings", name := "stills", desc := "(II)Z" } : Jvm.MethodName)) ∈ lw_all := lw_g (lw_at lw_m5 86 rfl) rfl
theorem q1176 : (Jvm.Cond.privateMethod ({ cls := "HookSwings", name := "stills", desc := "(II)Z" } : Jvm.MethodName)) ∈ lw_tbl := lw_at lw_m5 87 rfl
theorem q1177 : (Jvm.Cond.instanceMethod ({ cls := "HookSwings", name := "stills", desc := "(II)Z" } : Jvm.MethodName)) ∈ lw_all := lw_g (lw_at lw_m5 88 rfl) rfl
theorem q1178 : (Jvm.Cond.code ({ cls := "HookSwings", name := "stills", desc := "(II)Z" } : Jvm.MethodName) prog_1_method_48_code (4 : Nat) (Option.some Jvm.ClassFile.FieldType.boolean)) ∈ lw_all := lw_g (lw_at lw_m5 89 rfl) rfl
theorem q1180 : (Jvm.Cond.instanceMethod ({ cls := "HookSwings", name := "fewest", desc := "(I)I" } : Jvm.MethodName)) ∈ lw_all := lw_g (lw_at lw_m5 91 rfl) rfl
theorem q1181 : (Jvm.Cond.selects "HookSwings" ({ cls := "HookSwings", name := "fewest", desc := "(I)I" } : Jvm.MethodName) ({ cls := "HookSwings", name := "fewest", desc := "(I)I" } : Jvm.MethodName)) ∈ lw_all := lw_g (lw_at lw_m5 92 rfl) rfl
theorem q1182 : (Jvm.Cond.code ({ cls := "HookSwings", name := "fewest", desc := "(I)I" } : Jvm.MethodName) prog_1_method_51_code (4 : Nat) (Option.some Jvm.ClassFile.FieldType.int)) ∈ lw_all := lw_g (lw_at lw_m5 93 rfl) rfl
theorem q1183 : (Jvm.Cond.methodLink "HookSwings" (316 : Nat) ({ cls := "HookSwings", name := "stillsBy", desc := "(III)Z" } : Jvm.MethodName)) ∈ lw_all := lw_g (lw_at lw_m5 94 rfl) rfl
theorem q1184 : (Jvm.Cond.privateMethod ({ cls := "HookSwings", name := "stillsBy", desc := "(III)Z" } : Jvm.MethodName)) ∈ lw_tbl := lw_at lw_m5 95 rfl
theorem q1185 : (Jvm.Cond.instanceMethod ({ cls := "HookSwings", name := "stillsBy", desc := "(III)Z" } : Jvm.MethodName)) ∈ lw_all := lw_g (lw_at lw_m5 96 rfl) rfl
theorem q1186 : (Jvm.Cond.code ({ cls := "HookSwings", name := "stillsBy", desc := "(III)Z" } : Jvm.MethodName) prog_1_method_50_code (6 : Nat) (Option.some Jvm.ClassFile.FieldType.boolean)) ∈ lw_all := lw_g (lw_at lw_m5 97 rfl) rfl
theorem q1188 : (Jvm.Cond.instanceMethod ({ cls := "HookSwings", name := "toAndFro", desc := "(I)I" } : Jvm.MethodName)) ∈ lw_all := lw_g (lw_at lw_m5 99 rfl) rfl
theorem q1189 : (Jvm.Cond.selects "HookSwings" ({ cls := "HookSwings", name := "toAndFro", desc := "(I)I" } : Jvm.MethodName) ({ cls := "HookSwings", name := "toAndFro", desc := "(I)I" } : Jvm.MethodName)) ∈ lw_all := lw_g (lw_at lw_m5 100 rfl) rfl
theorem q1190 : (Jvm.Cond.code ({ cls := "HookSwings", name := "toAndFro", desc := "(I)I" } : Jvm.MethodName) prog_1_method_52_code (5 : Nat) (Option.some Jvm.ClassFile.FieldType.int)) ∈ lw_all := lw_g (lw_at lw_m5 101 rfl) rfl
theorem q1192 : (Jvm.Cond.instanceMethod ({ cls := "HookSwings", name := "calm", desc := "(IIZ)J" } : Jvm.MethodName)) ∈ lw_all := lw_g (lw_at lw_m5 103 rfl) rfl
theorem q1193 : (Jvm.Cond.selects "HookSwings" ({ cls := "HookSwings", name := "calm", desc := "(IIZ)J" } : Jvm.MethodName) ({ cls := "HookSwings", name := "calm", desc := "(IIZ)J" } : Jvm.MethodName)) ∈ lw_all := lw_g (lw_at lw_m5 104 rfl) rfl
theorem q1194 : (Jvm.Cond.code ({ cls := "HookSwings", name := "calm", desc := "(IIZ)J" } : Jvm.MethodName) prog_1_method_55_code (4 : Nat) (Option.some Jvm.ClassFile.FieldType.long)) ∈ lw_all := lw_g (lw_at lw_m5 105 rfl) rfl
theorem q1195 : (Jvm.Cond.methodLink "HookSwings" (319 : Nat) ({ cls := "HookSwings", name := "power", desc := "(JI)J" } : Jvm.MethodName)) ∈ lw_all := lw_g (lw_at lw_m5 106 rfl) rfl
theorem q1196 : (Jvm.Cond.static ({ cls := "HookSwings", name := "power", desc := "(JI)J" } : Jvm.MethodName)) ∈ lw_all := lw_g (lw_at lw_m5 107 rfl) rfl
theorem q1197 : (Jvm.Cond.code ({ cls := "HookSwings", name := "power", desc := "(JI)J" } : Jvm.MethodName) prog_1_method_53_code (3 : Nat) (Option.some Jvm.ClassFile.FieldType.long)) ∈ lw_all := lw_g (lw_at lw_m5 108 rfl) rfl
theorem q1198 : (Jvm.Cond.constantLong "HookSwings" (326 : Nat) (10 : Int64)) ∈ lw_all := lw_g (lw_at lw_m5 109 rfl) rfl
theorem q1199 : (Jvm.Cond.methodLink "HookSwings" (328 : Nat) ({ cls := "HookSwings", name := "inLowest", desc := "(JJZ)J" } : Jvm.MethodName)) ∈ lw_all := lw_g (lw_at lw_m5 110 rfl) rfl
theorem q1200 : (Jvm.Cond.static ({ cls := "HookSwings", name := "inLowest", desc := "(JJZ)J" } : Jvm.MethodName)) ∈ lw_all := lw_g (lw_at lw_m5 111 rfl) rfl
theorem q1201 : (Jvm.Cond.code ({ cls := "HookSwings", name := "inLowest", desc := "(JJZ)J" } : Jvm.MethodName) prog_1_method_54_code (7 : Nat) (Option.some Jvm.ClassFile.FieldType.long)) ∈ lw_all := lw_g (lw_at lw_m5 112 rfl) rfl
theorem q1202 : (Jvm.Cond.methodLink "HookSwings" (323 : Nat) ({ cls := "HookSwings", name := "common", desc := "(JJ)J" } : Jvm.MethodName)) ∈ lw_all := lw_g (lw_at lw_m5 113 rfl) rfl
theorem q1203 : (Jvm.Cond.static ({ cls := "HookSwings", name := "common", desc := "(JJ)J" } : Jvm.MethodName)) ∈ lw_all := lw_g (lw_at lw_m5 114 rfl) rfl
theorem q1204 : (Jvm.Cond.code ({ cls := "HookSwings", name := "common", desc := "(JJ)J" } : Jvm.MethodName) prog_1_method_79_code (4 : Nat) (Option.some Jvm.ClassFile.FieldType.long)) ∈ lw_all := lw_g (lw_at lw_m5 115 rfl) rfl
theorem q1205 : (Jvm.Cond.constantLong "HookSwings" (332 : Nat) (-1 : Int64)) ∈ lw_all := lw_g (lw_at lw_m5 116 rfl) rfl
theorem q1207 : (Jvm.Cond.instanceMethod ({ cls := "HookSwings", name := "dies", desc := "(II)I" } : Jvm.MethodName)) ∈ lw_all := lw_g (lw_at lw_m5 118 rfl) rfl
theorem q1208 : (Jvm.Cond.selects "HookSwings" ({ cls := "HookSwings", name := "dies", desc := "(II)I" } : Jvm.MethodName) ({ cls := "HookSwings", name := "dies", desc := "(II)I" } : Jvm.MethodName)) ∈ lw_all := lw_g (lw_at lw_m5 119 rfl) rfl
theorem q1209 : (Jvm.Cond.code ({ cls := "HookSwings", name := "dies", desc := "(II)I" } : Jvm.MethodName) prog_1_method_56_code (4 : Nat) (Option.some Jvm.ClassFile.FieldType.int)) ∈ lw_all := lw_g (lw_at lw_m5 120 rfl) rfl
theorem q1211 : (Jvm.Cond.instanceMethod ({ cls := "HookSwings", name := "calmest", desc := "(I)I" } : Jvm.MethodName)) ∈ lw_all := lw_g (lw_at lw_m5 122 rfl) rfl
theorem q1212 : (Jvm.Cond.selects "HookSwings" ({ cls := "HookSwings", name := "calmest", desc := "(I)I" } : Jvm.MethodName) ({ cls := "HookSwings", name := "calmest", desc := "(I)I" } : Jvm.MethodName)) ∈ lw_all := lw_g (lw_at lw_m5 123 rfl) rfl
theorem q1213 : (Jvm.Cond.code ({ cls := "HookSwings", name := "calmest", desc := "(I)I" } : Jvm.MethodName) prog_1_method_57_code (5 : Nat) (Option.some Jvm.ClassFile.FieldType.int)) ∈ lw_all := lw_g (lw_at lw_m5 124 rfl) rfl
theorem q1215 : (Jvm.Cond.instanceMethod ({ cls := "HookSwings", name := "whoseHand", desc := "()I" } : Jvm.MethodName)) ∈ lw_all := lw_g (lw_at lw_m5 126 rfl) rfl
theorem q1216 : (Jvm.Cond.selects "HookSwings" ({ cls := "HookSwings", name := "whoseHand", desc := "()I" } : Jvm.MethodName) ({ cls := "HookSwings", name := "whoseHand", desc := "()I" } : Jvm.MethodName)) ∈ lw_all := lw_g (lw_at lw_m5 127 rfl) rfl
theorem q1217 : (Jvm.Cond.code ({ cls := "HookSwings", name := "whoseHand", desc := "()I" } : Jvm.MethodName) prog_1_method_59_code (3 : Nat) (Option.some Jvm.ClassFile.FieldType.int)) ∈ lw_all := lw_g (lw_at lw_m5 128 rfl) rfl
theorem q1218 : (Jvm.Cond.methodLink "HookSwings" (334 : Nat) ({ cls := "HookSwings", name := "isHand", desc := "(LHookSwings$Text;)Z" } : Jvm.MethodName)) ∈ lw_all := lw_g (lw_at lw_m5 129 rfl) rfl
theorem q1219 : (Jvm.Cond.privateMethod ({ cls := "HookSwings", name := "isHand", desc := "(LHookSwings$Text;)Z" } : Jvm.MethodName)) ∈ lw_tbl := lw_at lw_m5 130 rfl
theorem q1220 : (Jvm.Cond.instanceMethod ({ cls := "HookSwings", name := "isHand", desc := "(LHookSwings$Text;)Z" } : Jvm.MethodName)) ∈ lw_all := lw_g (lw_at lw_m5 131 rfl) rfl
theorem q1221 : (Jvm.Cond.code ({ cls := "HookSwings", name := "isHand", desc := "(LHookSwings$Text;)Z" } : Jvm.MethodName) prog_1_method_58_code (5 : Nat) (Option.some Jvm.ClassFile.FieldType.boolean)) ∈ lw_all := lw_g (lw_at lw_m5 132 rfl) rfl
theorem q1223 : (Jvm.Cond.instanceMethod ({ cls := "HookSwings", name := "dayEnds", desc := "(II)I" } : Jvm.MethodName)) ∈ lw_all := lw_g (lw_at lw_m5 134 rfl) rfl
theorem q1224 : (Jvm.Cond.selects "HookSwings" ({ cls := "HookSwings", name := "dayEnds", desc := "(II)I" } : Jvm.MethodName) ({ cls := "HookSwings", name := "dayEnds", desc := "(II)I" } : Jvm.MethodName)) ∈ lw_all := lw_g (lw_at lw_m5 135 rfl) rfl
theorem q1225 : (Jvm.Cond.code ({ cls := "HookSwings", name := "dayEnds", desc := "(II)I" } : Jvm.MethodName) prog_1_method_60_code (6 : Nat) (Option.some Jvm.ClassFile.FieldType.int)) ∈ lw_all := lw_g (lw_at lw_m5 136 rfl) rfl
theorem q1227 : (Jvm.Cond.instanceMethod ({ cls := "HookSwings", name := "saves", desc := "(III)I" } : Jvm.MethodName)) ∈ lw_all := lw_g (lw_at lw_m5 138 rfl) rfl
theorem q1228 : (Jvm.Cond.selects "HookSwings" ({ cls := "HookSwings", name := "saves", desc := "(III)I" } : Jvm.MethodName) ({ cls := "HookSwings", name := "saves", desc := "(III)I" } : Jvm.MethodName)) ∈ lw_all := lw_g (lw_at lw_m5 139 rfl) rfl
theorem q1229 : (Jvm.Cond.code ({ cls := "HookSwings", name := "saves", desc := "(III)I" } : Jvm.MethodName) prog_1_method_63_code (6 : Nat) (Option.some Jvm.ClassFile.FieldType.int)) ∈ lw_all := lw_g (lw_at lw_m5 140 rfl) rfl
theorem q1230 : (Jvm.Cond.methodLink "HookSwings" (344 : Nat) ({ cls := "HookSwings", name := "takes", desc := "(LHookSwings$Text;I)I" } : Jvm.MethodName)) ∈ lw_all := lw_g (lw_at lw_m5 141 rfl) rfl
theorem q1231 : (Jvm.Cond.privateMethod ({ cls := "HookSwings", name := "takes", desc := "(LHookSwings$Text;I)I" } : Jvm.MethodName)) ∈ lw_tbl := lw_at lw_m5 142 rfl
theorem q1232 : (Jvm.Cond.instanceMethod ({ cls := "HookSwings", name := "takes", desc := "(LHookSwings$Text;I)I" } : Jvm.MethodName)) ∈ lw_all := lw_g (lw_at lw_m5 143 rfl) rfl
theorem q1233 : (Jvm.Cond.code ({ cls := "HookSwings", name := "takes", desc := "(LHookSwings$Text;I)I" } : Jvm.MethodName) prog_1_method_62_code (4 : Nat) (Option.some Jvm.ClassFile.FieldType.int)) ∈ lw_all := lw_g (lw_at lw_m5 144 rfl) rfl
theorem q1234 : (Jvm.Cond.methodLink "HookSwings" (338 : Nat) ({ cls := "java/util/Arrays", name := "fill", desc := "([II)V" } : Jvm.MethodName)) ∈ lw_all := lw_g (lw_at lw_m5 145 rfl) rfl
theorem q1237 : (Jvm.Cond.methodLink "HookSwings" (340 : Nat) ({ cls := "HookSwings", name := "stillIn", desc := "([ILHookSwings$Text;I)I" } : Jvm.MethodName)) ∈ lw_all := lw_g (lw_at lw_m5 148 rfl) rfl
theorem q1238 : (Jvm.Cond.privateMethod ({ cls := "HookSwings", name := "stillIn", desc := "([ILHookSwings$Text;I)I" } : Jvm.MethodName)) ∈ lw_tbl := lw_at lw_m5 149 rfl
theorem q1239 : (Jvm.Cond.instanceMethod ({ cls := "HookSwings", name := "stillIn", desc := "([ILHookSwings$Text;I)I" } : Jvm.MethodName)) ∈ lw_all := lw_g (lw_at lw_m5 150 rfl) rfl
theorem q1240 : (Jvm.Cond.code ({ cls := "HookSwings", name := "stillIn", desc := "([ILHookSwings$Text;I)I" } : Jvm.MethodName) prog_1_method_61_code (5 : Nat) (Option.some Jvm.ClassFile.FieldType.int)) ∈ lw_all := lw_g (lw_at lw_m5 151 rfl) rfl
theorem q1242 : (Jvm.Cond.instanceMethod ({ cls := "HookSwings", name := "whenToGo", desc := "()I" } : Jvm.MethodName)) ∈ lw_all := lw_g (lw_at lw_m5 153 rfl) rfl
theorem q1243 : (Jvm.Cond.selects "HookSwings" ({ cls := "HookSwings", name := "whenToGo", desc := "()I" } : Jvm.MethodName) ({ cls := "HookSwings", name := "whenToGo", desc := "()I" } : Jvm.MethodName)) ∈ lw_all := lw_g (lw_at lw_m5 154 rfl) rfl
theorem q1244 : (Jvm.Cond.code ({ cls := "HookSwings", name := "whenToGo", desc := "()I" } : Jvm.MethodName) prog_1_method_64_code (5 : Nat) (Option.some Jvm.ClassFile.FieldType.int)) ∈ lw_all := lw_g (lw_at lw_m5 155 rfl) rfl
theorem q1245 : (Jvm.Cond.methodLink "HookSwings" (348 : Nat) ({ cls := "java/lang/Math", name := "min", desc := "(II)I" } : Jvm.MethodName)) ∈ lw_all := lw_g (lw_at lw_m5 156 rfl) rfl
theorem q1247 : (Jvm.Cond.instanceMethod ({ cls := "HookSwings", name := "whichRope", desc := "()I" } : Jvm.MethodName)) ∈ lw_all := lw_g (lw_at lw_m5 158 rfl) rfl
theorem q1248 : (Jvm.Cond.selects "HookSwings" ({ cls := "HookSwings", name := "whichRope", desc := "()I" } : Jvm.MethodName) ({ cls := "HookSwings", name := "whichRope", desc := "()I" } : Jvm.MethodName)) ∈ lw_all := lw_g (lw_at lw_m5 159 rfl) rfl
theorem q1249 : (Jvm.Cond.code ({ cls := "HookSwings", name := "whichRope", desc := "()I" } : Jvm.MethodName) prog_1_method_65_code (5 : Nat) (Option.some Jvm.ClassFile.FieldType.int)) ∈ lw_all := lw_g (lw_at lw_m5 160 rfl) rfl
theorem q1251 : (Jvm.Cond.instanceMethod ({ cls := "HookSwings", name := "bar", desc := "(IIII)I" } : Jvm.MethodName)) ∈ lw_all := lw_g (lw_at lw_m5 162 rfl) rfl
theorem q1252 : (Jvm.Cond.selects "HookSwings" ({ cls := "HookSwings", name := "bar", desc := "(IIII)I" } : Jvm.MethodName) ({ cls := "HookSwings", name := "bar", desc := "(IIII)I" } : Jvm.MethodName)) ∈ lw_all := lw_g (lw_at lw_m5 163 rfl) rfl
theorem q1253 : (Jvm.Cond.code ({ cls := "HookSwings", name := "bar", desc := "(IIII)I" } : Jvm.MethodName) prog_1_method_66_code (6 : Nat) (Option.some Jvm.ClassFile.FieldType.int)) ∈ lw_all := lw_g (lw_at lw_m5 164 rfl) rfl
theorem q1255 : (Jvm.Cond.instanceMethod ({ cls := "HookSwings", name := "barred", desc := "(IZ)I" } : Jvm.MethodName)) ∈ lw_all := lw_g (lw_at lw_m5 166 rfl) rfl
theorem q1256 : (Jvm.Cond.selects "HookSwings" ({ cls := "HookSwings", name := "barred", desc := "(IZ)I" } : Jvm.MethodName) ({ cls := "HookSwings", name := "barred", desc := "(IZ)I" } : Jvm.MethodName)) ∈ lw_all := lw_g (lw_at lw_m5 167 rfl) rfl
theorem q1257 : (Jvm.Cond.code ({ cls := "HookSwings", name := "barred", desc := "(IZ)I" } : Jvm.MethodName) prog_1_method_68_code (4 : Nat) (Option.some Jvm.ClassFile.FieldType.int)) ∈ lw_all := lw_g (lw_at lw_m5 168 rfl) rfl
theorem q1258 : (Jvm.Cond.methodLink "HookSwings" (353 : Nat) ({ cls := "HookSwings", name := "isBarred", desc := "([I)Z" } : Jvm.MethodName)) ∈ lw_all := lw_g (lw_at lw_m5 169 rfl) rfl
theorem q1259 : (Jvm.Cond.privateMethod ({ cls := "HookSwings", name := "isBarred", desc := "([I)Z" } : Jvm.MethodName)) ∈ lw_tbl := lw_at lw_m5 170 rfl
theorem q1260 : (Jvm.Cond.instanceMethod ({ cls := "HookSwings", name := "isBarred", desc := "([I)Z" } : Jvm.MethodName)) ∈ lw_all := lw_g (lw_at lw_m5 171 rfl) rfl
theorem q1261 : (Jvm.Cond.code ({ cls := "HookSwings", name := "isBarred", desc := "([I)Z" } : Jvm.MethodName) prog_1_method_67_code (4 : Nat) (Option.some Jvm.ClassFile.FieldType.boolean)) ∈ lw_all := lw_g (lw_at lw_m5 172 rfl) rfl
theorem q1263 : (Jvm.Cond.instanceMethod ({ cls := "HookSwings", name := "howFar", desc := "(I)I" } : Jvm.MethodName)) ∈ lw_all := lw_g (lw_at lw_m5 174 rfl) rfl
theorem q1264 : (Jvm.Cond.selects "HookSwings" ({ cls := "HookSwings", name := "howFar", desc := "(I)I" } : Jvm.MethodName) ({ cls := "HookSwings", name := "howFar", desc := "(I)I" } : Jvm.MethodName)) ∈ lw_all := lw_g (lw_at lw_m5 175 rfl) rfl
theorem q1265 : (Jvm.Cond.code ({ cls := "HookSwings", name := "howFar", desc := "(I)I" } : Jvm.MethodName) prog_1_method_69_code (3 : Nat) (Option.some Jvm.ClassFile.FieldType.int)) ∈ lw_all := lw_g (lw_at lw_m5 176 rfl) rfl
theorem q1267 : (Jvm.Cond.instanceMethod ({ cls := "HookSwings", name := "over", desc := "()I" } : Jvm.MethodName)) ∈ lw_all := lw_g (lw_at lw_m5 178 rfl) rfl
theorem q1268 : (Jvm.Cond.selects "HookSwings" ({ cls := "HookSwings", name := "over", desc := "()I" } : Jvm.MethodName) ({ cls := "HookSwings", name := "over", desc := "()I" } : Jvm.MethodName)) ∈ lw_all := lw_g (lw_at lw_m5 179 rfl) rfl
theorem q1269 : (Jvm.Cond.code ({ cls := "HookSwings", name := "over", desc := "()I" } : Jvm.MethodName) prog_1_method_70_code (3 : Nat) (Option.some Jvm.ClassFile.FieldType.int)) ∈ lw_all := lw_g (lw_at lw_m5 180 rfl) rfl
theorem q1271 : (Jvm.Cond.instanceMethod ({ cls := "HookSwings", name := "first", desc := "(II)I" } : Jvm.MethodName)) ∈ lw_all := lw_g (lw_at lw_m5 182 rfl) rfl
theorem q1272 : (Jvm.Cond.selects "HookSwings" ({ cls := "HookSwings", name := "first", desc := "(II)I" } : Jvm.MethodName) ({ cls := "HookSwings", name := "first", desc := "(II)I" } : Jvm.MethodName)) ∈ lw_all := lw_g (lw_at lw_m5 183 rfl) rfl
theorem q1273 : (Jvm.Cond.code ({ cls := "HookSwings", name := "first", desc := "(II)I" } : Jvm.MethodName) prog_1_method_73_code (3 : Nat) (Option.some Jvm.ClassFile.FieldType.int)) ∈ lw_all := lw_g (lw_at lw_m5 184 rfl) rfl
theorem q1274 : (Jvm.Cond.methodLink "HookSwings" (371 : Nat) ({ cls := "HookSwings", name := "lays", desc := "(II)Z" } : Jvm.MethodName)) ∈ lw_all := lw_g (lw_at lw_m5 185 rfl) rfl
theorem q1275 : (Jvm.Cond.privateMethod ({ cls := "HookSwings", name := "lays", desc := "(II)Z" } : Jvm.MethodName)) ∈ lw_tbl := lw_at lw_m5 186 rfl
theorem q1276 : (Jvm.Cond.instanceMethod ({ cls := "HookSwings", name := "lays", desc := "(II)Z" } : Jvm.MethodName)) ∈ lw_all := lw_g (lw_at lw_m5 187 rfl) rfl
theorem q1277 : (Jvm.Cond.code ({ cls := "HookSwings", name := "lays", desc := "(II)Z" } : Jvm.MethodName) prog_1_method_71_code (4 : Nat) (Option.some Jvm.ClassFile.FieldType.boolean)) ∈ lw_all := lw_g (lw_at lw_m5 188 rfl) rfl
theorem q1278 : (Jvm.Cond.methodLink "HookSwings" (356 : Nat) ({ cls := "java/lang/Integer", name := "bitCount", desc := "(I)I" } : Jvm.MethodName)) ∈ lw_all := lw_g (lw_at lw_m5 189 rfl) rfl
theorem q1284 : (Jvm.Cond.methodLink "HookSwings" (367 : Nat) ({ cls := "HookSwings", name := "firsts", desc := "(IIII)V" } : Jvm.MethodName)) ∈ lw_all := lw_g (lw_at lw_m5 195 rfl) rfl
theorem q1285 : (Jvm.Cond.privateMethod ({ cls := "HookSwings", name := "firsts", desc := "(IIII)V" } : Jvm.MethodName)) ∈ lw_tbl := lw_at lw_m5 196 rfl
theorem q1286 : (Jvm.Cond.instanceMethod ({ cls := "HookSwings", name := "firsts", desc := "(IIII)V" } : Jvm.MethodName)) ∈ lw_all := lw_g (lw_at lw_m5 197 rfl) rfl
theorem q1287 : (Jvm.Cond.code ({ cls := "HookSwings", name := "firsts", desc := "(IIII)V" } : Jvm.MethodName) prog_1_method_72_code (8 : Nat) (Option.none : Option Jvm.ClassFile.FieldType)) ∈ lw_all := lw_g (lw_at lw_m5 198 rfl) rfl
theorem q1289 : (Jvm.Cond.instanceMethod ({ cls := "HookSwings", name := "twoJibs", desc := "(II)I" } : Jvm.MethodName)) ∈ lw_all := lw_g (lw_at lw_m5 200 rfl) rfl
theorem q1290 : (Jvm.Cond.selects "HookSwings" ({ cls := "HookSwings", name := "twoJibs", desc := "(II)I" } : Jvm.MethodName) ({ cls := "HookSwings", name := "twoJibs", desc := "(II)I" } : Jvm.MethodName)) ∈ lw_all := lw_g (lw_at lw_m5 201 rfl) rfl
theorem q1291 : (Jvm.Cond.code ({ cls := "HookSwings", name := "twoJibs", desc := "(II)I" } : Jvm.MethodName) prog_1_method_77_code (4 : Nat) (Option.some Jvm.ClassFile.FieldType.int)) ∈ lw_all := lw_g (lw_at lw_m5 202 rfl) rfl
theorem q1292 : (Jvm.Cond.methodLink "HookSwings" (380 : Nat) ({ cls := "HookSwings", name := "both", desc := "(III)V" } : Jvm.MethodName)) ∈ lw_all := lw_g (lw_at lw_m5 203 rfl) rfl
theorem q1293 : (Jvm.Cond.privateMethod ({ cls := "HookSwings", name := "both", desc := "(III)V" } : Jvm.MethodName)) ∈ lw_tbl := lw_at lw_m5 204 rfl
theorem q1294 : (Jvm.Cond.instanceMethod ({ cls := "HookSwings", name := "both", desc := "(III)V" } : Jvm.MethodName)) ∈ lw_all := lw_g (lw_at lw_m5 205 rfl) rfl
theorem q1295 : (Jvm.Cond.code ({ cls := "HookSwings", name := "both", desc := "(III)V" } : Jvm.MethodName) prog_1_method_76_code (7 : Nat) (Option.none : Option Jvm.ClassFile.FieldType)) ∈ lw_all := lw_g (lw_at lw_m5 206 rfl) rfl
theorem q1296 : (Jvm.Cond.methodLink "HookSwings" (377 : Nat) ({ cls := "HookSwings", name := "beginOf", desc := "(II)I" } : Jvm.MethodName)) ∈ lw_all := lw_g (lw_at lw_m5 207 rfl) rfl
theorem q1297 : (Jvm.Cond.privateMethod ({ cls := "HookSwings", name := "beginOf", desc := "(II)I" } : Jvm.MethodName)) ∈ lw_tbl := lw_at lw_m5 208 rfl
theorem q1298 : (Jvm.Cond.instanceMethod ({ cls := "HookSwings", name := "beginOf", desc := "(II)I" } : Jvm.MethodName)) ∈ lw_all := lw_g (lw_at lw_m5 209 rfl) rfl
theorem q1299 : (Jvm.Cond.code ({ cls := "HookSwings", name := "beginOf", desc := "(II)I" } : Jvm.MethodName) prog_1_method_75_code (6 : Nat) (Option.some Jvm.ClassFile.FieldType.int)) ∈ lw_all := lw_g (lw_at lw_m5 210 rfl) rfl
theorem q1300 : (Jvm.Cond.methodLink "HookSwings" (374 : Nat) ({ cls := "HookSwings", name := "areClose", desc := "(II)Z" } : Jvm.MethodName)) ∈ lw_all := lw_g (lw_at lw_m5 211 rfl) rfl
theorem q1301 : (Jvm.Cond.privateMethod ({ cls := "HookSwings", name := "areClose", desc := "(II)Z" } : Jvm.MethodName)) ∈ lw_tbl := lw_at lw_m5 212 rfl
theorem q1302 : (Jvm.Cond.instanceMethod ({ cls := "HookSwings", name := "areClose", desc := "(II)Z" } : Jvm.MethodName)) ∈ lw_all := lw_g (lw_at lw_m5 213 rfl) rfl
theorem q1303 : (Jvm.Cond.code ({ cls := "HookSwings", name := "areClose", desc := "(II)Z" } : Jvm.MethodName) prog_1_method_74_code (3 : Nat) (Option.some Jvm.ClassFile.FieldType.boolean)) ∈ lw_all := lw_g (lw_at lw_m5 214 rfl) rfl
theorem q1305 : (Jvm.Cond.instanceMethod ({ cls := "HookSwings", name := "said", desc := "(IZ)I" } : Jvm.MethodName)) ∈ lw_all := lw_g (lw_at lw_m5 216 rfl) rfl
theorem q1306 : (Jvm.Cond.selects "HookSwings" ({ cls := "HookSwings", name := "said", desc := "(IZ)I" } : Jvm.MethodName) ({ cls := "HookSwings", name := "said", desc := "(IZ)I" } : Jvm.MethodName)) ∈ lw_all := lw_g (lw_at lw_m5 217 rfl) rfl
theorem q1307 : (Jvm.Cond.code ({ cls := "HookSwings", name := "said", desc := "(IZ)I" } : Jvm.MethodName) prog_1_method_78_code (3 : Nat) (Option.some Jvm.ClassFile.FieldType.int)) ∈ lw_all := lw_g (lw_at lw_m5 218 rfl) rfl
theorem q1309 : (Jvm.Cond.instanceMethod ({ cls := "HookSwings", name := "left", desc := "(Z)J" } : Jvm.MethodName)) ∈ lw_all := lw_g (lw_at lw_m5 220 rfl) rfl
theorem q1310 : (Jvm.Cond.selects "HookSwings" ({ cls := "HookSwings", name := "left", desc := "(Z)J" } : Jvm.MethodName) ({ cls := "HookSwings", name := "left", desc := "(Z)J" } : Jvm.MethodName)) ∈ lw_all := lw_g (lw_at lw_m5 221 rfl) rfl
theorem q1311 : (Jvm.Cond.code ({ cls := "HookSwings", name := "left", desc := "(Z)J" } : Jvm.MethodName) prog_1_method_81_code (6 : Nat) (Option.some Jvm.ClassFile.FieldType.long)) ∈ lw_all := lw_g (lw_at lw_m5 222 rfl) rfl
theorem q1312 : (Jvm.Cond.methodLink "HookSwings" (387 : Nat) ({ cls := "HookSwings", name := "productOf", desc := "(I)J" } : Jvm.MethodName)) ∈ lw_all := lw_g (lw_at lw_m5 223 rfl) rfl
theorem q1313 : (Jvm.Cond.privateMethod ({ cls := "HookSwings", name := "productOf", desc := "(I)J" } : Jvm.MethodName)) ∈ lw_tbl := lw_at lw_m5 224 rfl
theorem q1314 : (Jvm.Cond.instanceMethod ({ cls := "HookSwings", name := "productOf", desc := "(I)J" } : Jvm.MethodName)) ∈ lw_all := lw_g (lw_at lw_m5 225 rfl) rfl
theorem q1315 : (Jvm.Cond.code ({ cls := "HookSwings", name := "productOf", desc := "(I)J" } : Jvm.MethodName) prog_1_method_80_code (5 : Nat) (Option.some Jvm.ClassFile.FieldType.long)) ∈ lw_all := lw_g (lw_at lw_m5 226 rfl) rfl
theorem q1317 : (Jvm.Cond.instanceMethod ({ cls := "HookSwings", name := "landed", desc := "(II)I" } : Jvm.MethodName)) ∈ lw_all := lw_g (lw_at lw_m5 228 rfl) rfl
theorem q1318 : (Jvm.Cond.selects "HookSwings" ({ cls := "HookSwings", name := "landed", desc := "(II)I" } : Jvm.MethodName) ({ cls := "HookSwings", name := "landed", desc := "(II)I" } : Jvm.MethodName)) ∈ lw_all := lw_g (lw_at lw_m5 229 rfl) rfl
theorem q1319 : (Jvm.Cond.code ({ cls := "HookSwings", name := "landed", desc := "(II)I" } : Jvm.MethodName) prog_1_method_82_code (3 : Nat) (Option.some Jvm.ClassFile.FieldType.int)) ∈ lw_all := lw_g (lw_at lw_m5 230 rfl) rfl
theorem q1321 : (Jvm.Cond.instanceMethod ({ cls := "HookSwings", name := "hour", desc := "(I)I" } : Jvm.MethodName)) ∈ lw_all := lw_g (lw_at lw_m5 232 rfl) rfl
theorem q1322 : (Jvm.Cond.selects "HookSwings" ({ cls := "HookSwings", name := "hour", desc := "(I)I" } : Jvm.MethodName) ({ cls := "HookSwings", name := "hour", desc := "(I)I" } : Jvm.MethodName)) ∈ lw_all := lw_g (lw_at lw_m5 233 rfl) rfl
theorem q1323 : (Jvm.Cond.code ({ cls := "HookSwings", name := "hour", desc := "(I)I" } : Jvm.MethodName) prog_1_method_83_code (4 : Nat) (Option.some Jvm.ClassFile.FieldType.int)) ∈ lw_all := lw_g (lw_at lw_m5 234 rfl) rfl
theorem q1325 : (Jvm.Cond.instanceMethod ({ cls := "HookSwings", name := "mean", desc := "(Z)I" } : Jvm.MethodName)) ∈ lw_all := lw_g (lw_at lw_m5 236 rfl) rfl
theorem q1326 : (Jvm.Cond.selects "HookSwings" ({ cls := "HookSwings", name := "mean", desc := "(Z)I" } : Jvm.MethodName) ({ cls := "HookSwings", name := "mean", desc := "(Z)I" } : Jvm.MethodName)) ∈ lw_all := lw_g (lw_at lw_m5 237 rfl) rfl
theorem q1327 : (Jvm.Cond.code ({ cls := "HookSwings", name := "mean", desc := "(Z)I" } : Jvm.MethodName) prog_1_method_84_code (3 : Nat) (Option.some Jvm.ClassFile.FieldType.int)) ∈ lw_all := lw_g (lw_at lw_m5 238 rfl) rfl
theorem q1329 : (Jvm.Cond.instanceMethod ({ cls := "HookSwings", name := "image", desc := "()I" } : Jvm.MethodName)) ∈ lw_all := lw_g (lw_at lw_m6 0 rfl) rfl
theorem q1330 : (Jvm.Cond.selects "HookSwings" ({ cls := "HookSwings", name := "image", desc := "()I" } : Jvm.MethodName) ({ cls := "HookSwings", name := "image", desc := "()I" } : Jvm.MethodName)) ∈ lw_all := lw_g (lw_at lw_m6 1 rfl) rfl
theorem q1331 : (Jvm.Cond.code ({ cls := "HookSwings", name := "image", desc := "()I" } : Jvm.MethodName) prog_1_method_85_code (1 : Nat) (Option.some Jvm.ClassFile.FieldType.int)) ∈ lw_all := lw_g (lw_at lw_m6 2 rfl) rfl
theorem q1333 : (Jvm.Cond.instanceMethod ({ cls := "HookSwings", name := "back", desc := "()I" } : Jvm.MethodName)) ∈ lw_all := lw_g (lw_at lw_m6 4 rfl) rfl
theorem q1334 : (Jvm.Cond.selects "HookSwings" ({ cls := "HookSwings", name := "back", desc := "()I" } : Jvm.MethodName) ({ cls := "HookSwings", name := "back", desc := "()I" } : Jvm.MethodName)) ∈ lw_all := lw_g (lw_at lw_m6 5 rfl) rfl
theorem q1335 : (Jvm.Cond.code ({ cls := "HookSwings", name := "back", desc := "()I" } : Jvm.MethodName) prog_1_method_86_code (1 : Nat) (Option.some Jvm.ClassFile.FieldType.int)) ∈ lw_all := lw_g (lw_at lw_m6 6 rfl) rfl
theorem q1337 : (Jvm.Cond.instanceMethod ({ cls := "HookSwings", name := "about", desc := "(I)I" } : Jvm.MethodName)) ∈ lw_all := lw_g (lw_at lw_m6 8 rfl) rfl
theorem q1338 : (Jvm.Cond.selects "HookSwings" ({ cls := "HookSwings", name := "about", desc := "(I)I" } : Jvm.MethodName) ({ cls := "HookSwings", name := "about", desc := "(I)I" } : Jvm.MethodName)) ∈ lw_all := lw_g (lw_at lw_m6 9 rfl) rfl
theorem q1339 : (Jvm.Cond.code ({ cls := "HookSwings", name := "about", desc := "(I)I" } : Jvm.MethodName) prog_1_method_87_code (2 : Nat) (Option.some Jvm.ClassFile.FieldType.int)) ∈ lw_all := lw_g (lw_at lw_m6 10 rfl) rfl
theorem q2020 : (Jvm.Cond.castable "HookSwings" "java/lang/Object") ∈ lw_tbl := lw_at lw_m8 211 rfl
theorem in_X0 : ∀ w ∈ wsX00, w ∈ lw_all := lw_in wsX00 [248, 250, 252, 254, 256, 258, 260, 262, 264, 266, 268, 270, 272, 274, 276, 278, 280, 282, 284, 286, 288, 290] (by decide +kernel) (by decide +kernel)
