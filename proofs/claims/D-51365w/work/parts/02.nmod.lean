/-! MirrorDoorsModel -/
set_option maxRecDepth 100000
def RX9 : String := "MirrorDoorsModel"
def TX9 : u_T := fun k => match k with
  | 0 => ("MirrorDoorsModel", "thrown", "I", false)
  | 1 => ("MirrorDoorsModel", "w", "[I", true)
  | 2 => ("MirrorDoorsModel", "past", "[[I", true)
  | 3 => ("MirrorDoorsModel", "pastCount", "I", false)
  | 4 => ("MirrorDoorsModel", "slots", "[[I", true)
  | 5 => ("MirrorDoorsModel", "isKept", "[Z", true)
  | 6 => ("MirrorDoorsModel", "before", "[I", true)
  | 7 => ("MirrorDoorsModel", "aside", "[I", true)
  | 8 => ("MirrorDoorsModel", "levels", "[[I", true)
  | 9 => ("MirrorDoorsModel", "bestAt", "[I", true)
  | 10 => ("MirrorDoorsModel", "nextAt", "[I", true)
  | 11 => ("MirrorDoorsModel", "movedAt", "[Z", true)
  | 12 => ("MirrorDoorsModel", "text", "[I", true)
  | 13 => ("MirrorDoorsModel", "typed", "I", false)
  | 14 => ("MirrorDoorsModel", "report", "[B", true)
  | 15 => ("MirrorDoorsModel", "reported", "I", false)
  | 16 => ("MirrorDoorsModel", "isLit", "[Z", true)
  | 17 => ("MirrorDoorsModel", "numbers", "[I", true)
  | 18 => ("MirrorDoorsModel", "order", "[I", true)
  | 19 => ("MirrorDoorsModel", "steps", "[I", true)
  | 20 => ("MirrorDoorsModel", "reached", "[Z", true)
  | 21 => ("MirrorDoorsModel", "behind", "[I", true)
  | 22 => ("MirrorDoorsModel", "waiting", "[I", true)
  | 23 => ("MirrorDoorsModel", "waits", "I", false)
  | 24 => ("MirrorDoorsModel", "beams", "I", false)
  | 25 => ("MirrorDoorsModel", "leaves", "I", false)
  | 26 => ("MirrorDoorsModel", "at", "I", false)
  | 27 => ("MirrorDoorsModel", "from", "I", false)
  | 28 => ("MirrorDoorsModel", "kind", "I", false)
  | 29 => ("MirrorDoorsModel", "value", "I", false)
  | _ => ("MirrorDoorsModel", "fault", "I", false)
def tyX9 : Nat → FieldType := fun k => match k with
  | 0 => .int
  | 1 => .array .int
  | 2 => .array (.array .int)
  | 3 => .int
  | 4 => .array (.array .int)
  | 5 => .array .boolean
  | 6 => .array .int
  | 7 => .array .int
  | 8 => .array (.array .int)
  | 9 => .array .int
  | 10 => .array .int
  | 11 => .array .boolean
  | 12 => .array .int
  | 13 => .int
  | 14 => .array .byte
  | 15 => .int
  | 16 => .array .boolean
  | 17 => .array .int
  | 18 => .array .int
  | 19 => .array .int
  | 20 => .array .boolean
  | 21 => .array .int
  | 22 => .array .int
  | 23 => .int
  | 24 => .int
  | 25 => .int
  | 26 => .int
  | 27 => .int
  | 28 => .int
  | 29 => .int
  | _ => .int
abbrev wsX90 : List Cond := u_ws RX9 TX9 31
set_option maxRecDepth 100000 in
theorem nmX9 : ∀ a, a < 31 → ∀ b, b < 31 → a ≠ b → (TX9 a).2.1 ≠ (TX9 b).2.1 := by decide +kernel
set_option maxRecDepth 100000 in
theorem tyX9_ok : ∀ k, k < 31 → parseFieldDescriptor (TX9 k).2.2.1 = some (tyX9 k) := by decide +kernel
abbrev cX9_init : ByteArray := prog_15_method_1_code
def yX9_init : MethodName := ⟨RX9, "<init>", "()V"⟩
def dkwX9_init_10 : List UInt8 := [182, 0, 75, 42, 3, 6, 7, 2, 4, 182, 0, 75, 42, 182, 0, 79, 87, 177]
abbrev dktX9_init_10 : List UInt8 := dkwX9_init_10 ++ []
def dkwX9_init_9 : List UInt8 := [6, 6, 5, 4, 4, 182, 0, 75, 42, 4, 4, 6, 4, 3, 182, 0, 75, 42, 4, 3, 7, 2, 5]
abbrev dktX9_init_9 : List UInt8 := dkwX9_init_9 ++ dktX9_init_10
def dkwX9_init_8 : List UInt8 := [6, 16, 30, 79, 42, 3, 4, 16, 7, 4, 3, 182, 0, 75, 42, 6, 4, 5, 4, 3, 182, 0, 75, 42]
abbrev dktX9_init_8 : List UInt8 := dkwX9_init_8 ++ dktX9_init_9
def dkwX9_init_7 : List UInt8 := [188, 10, 181, 0, 65, 42, 17, 1, 144, 188, 10, 181, 0, 68, 42, 8, 7, 182, 0, 71, 42, 180, 0, 9]
abbrev dktX9_init_7 : List UInt8 := dkwX9_init_7 ++ dktX9_init_8
def dkwX9_init_6 : List UInt8 := [181, 0, 56, 42, 17, 1, 144, 188, 10, 181, 0, 59, 42, 17, 1, 144, 188, 4, 181, 0, 62, 42, 5]
abbrev dktX9_init_6 : List UInt8 := dkwX9_init_6 ++ dktX9_init_7
def dkwX9_init_5 : List UInt8 := [17, 1, 144, 188, 4, 181, 0, 50, 42, 17, 1, 144, 188, 10, 181, 0, 53, 42, 17, 1, 144, 188, 10]
abbrev dktX9_init_5 : List UInt8 := dkwX9_init_5 ++ dktX9_init_6
def dkwX9_init_4 : List UInt8 := [188, 4, 181, 0, 40, 42, 17, 2, 88, 188, 10, 181, 0, 43, 42, 16, 110, 188, 8, 181, 0, 46, 42]
abbrev dktX9_init_4 : List UInt8 := dkwX9_init_4 ++ dktX9_init_5
def dkwX9_init_3 : List UInt8 := [197, 0, 13, 2, 181, 0, 31, 42, 7, 188, 10, 181, 0, 34, 42, 7, 188, 10, 181, 0, 37, 42, 7]
abbrev dktX9_init_3 : List UInt8 := dkwX9_init_3 ++ dktX9_init_4
def dkwX9_init_2 : List UInt8 := [17, 2, 94, 188, 10, 181, 0, 25, 42, 17, 2, 94, 188, 10, 181, 0, 28, 42, 7, 17, 2, 94]
abbrev dktX9_init_2 : List UInt8 := dkwX9_init_2 ++ dktX9_init_3
def dkwX9_init_1 : List UInt8 := [181, 0, 15, 42, 5, 17, 2, 94, 197, 0, 13, 2, 181, 0, 18, 42, 5, 188, 4, 181, 0, 21, 42]
abbrev dktX9_init_1 : List UInt8 := dkwX9_init_1 ++ dktX9_init_2
def dkwX9_init_0 : List UInt8 := [42, 183, 0, 3, 42, 17, 2, 94, 188, 10, 181, 0, 9, 42, 16, 10, 17, 2, 94, 197, 0, 13, 2]
abbrev dktX9_init_0 : List UInt8 := dkwX9_init_0 ++ dktX9_init_1
theorem dksX9_init_0 : cX9_init.data.toList.drop 0 = dktX9_init_0 := by decide +kernel
theorem dksX9_init_1 : cX9_init.data.toList.drop 23 = dktX9_init_1 := dk_seg dksX9_init_0 23 rfl rfl
theorem dksX9_init_2 : cX9_init.data.toList.drop 46 = dktX9_init_2 := dk_seg dksX9_init_1 23 rfl rfl
theorem dksX9_init_3 : cX9_init.data.toList.drop 68 = dktX9_init_3 := dk_seg dksX9_init_2 22 rfl rfl
theorem dksX9_init_4 : cX9_init.data.toList.drop 91 = dktX9_init_4 := dk_seg dksX9_init_3 23 rfl rfl
theorem dksX9_init_5 : cX9_init.data.toList.drop 114 = dktX9_init_5 := dk_seg dksX9_init_4 23 rfl rfl
theorem dksX9_init_6 : cX9_init.data.toList.drop 137 = dktX9_init_6 := dk_seg dksX9_init_5 23 rfl rfl
theorem dksX9_init_7 : cX9_init.data.toList.drop 160 = dktX9_init_7 := dk_seg dksX9_init_6 23 rfl rfl
theorem dksX9_init_8 : cX9_init.data.toList.drop 184 = dktX9_init_8 := dk_seg dksX9_init_7 24 rfl rfl
theorem dksX9_init_9 : cX9_init.data.toList.drop 208 = dktX9_init_9 := dk_seg dksX9_init_8 24 rfl rfl
theorem dksX9_init_10 : cX9_init.data.toList.drop 231 = dktX9_init_10 := dk_seg dksX9_init_9 23 rfl rfl
theorem dX9_init_0 : decode cX9_init 0 = .ok (.aload_n 0, 1) := dk_42 (dk_at dksX9_init_0 0 rfl rfl)
theorem dX9_init_1 : decode cX9_init 1 = .ok (.invokespecial 3, 3) := dk_183 0 3 (dk_at dksX9_init_0 1 rfl rfl)
theorem dX9_init_4 : decode cX9_init 4 = .ok (.aload_n 0, 1) := dk_42 (dk_at dksX9_init_0 4 rfl rfl)
theorem dX9_init_5 : decode cX9_init 5 = .ok (.sipush 606, 3) := dk_17 2 94 (dk_at dksX9_init_0 5 rfl rfl)
theorem dX9_init_8 : decode cX9_init 8 = .ok (.newarray .int, 2) := dk_188_10 (dk_at dksX9_init_0 8 rfl rfl)
theorem dX9_init_10 : decode cX9_init 10 = .ok (.putfield 9, 3) := dk_181 0 9 (dk_at dksX9_init_0 10 rfl rfl)
theorem dX9_init_13 : decode cX9_init 13 = .ok (.aload_n 0, 1) := dk_42 (dk_at dksX9_init_0 13 rfl rfl)
theorem dX9_init_14 : decode cX9_init 14 = .ok (.bipush 10, 2) := dk_16 10 (dk_at dksX9_init_0 14 rfl rfl)
theorem dX9_init_16 : decode cX9_init 16 = .ok (.sipush 606, 3) := dk_17 2 94 (dk_at dksX9_init_0 16 rfl rfl)
theorem dX9_init_19 : decode cX9_init 19 = .ok (.multianewarray 13 2, 4) := by decide +kernel
theorem dX9_init_23 : decode cX9_init 23 = .ok (.putfield 15, 3) := dk_181 0 15 (dk_at dksX9_init_1 0 rfl rfl)
theorem dX9_init_26 : decode cX9_init 26 = .ok (.aload_n 0, 1) := dk_42 (dk_at dksX9_init_1 3 rfl rfl)
theorem dX9_init_27 : decode cX9_init 27 = .ok (.iconst 2, 1) := dk_5 (dk_at dksX9_init_1 4 rfl rfl)
theorem dX9_init_28 : decode cX9_init 28 = .ok (.sipush 606, 3) := dk_17 2 94 (dk_at dksX9_init_1 5 rfl rfl)
theorem dX9_init_31 : decode cX9_init 31 = .ok (.multianewarray 13 2, 4) := by decide +kernel
theorem dX9_init_35 : decode cX9_init 35 = .ok (.putfield 18, 3) := dk_181 0 18 (dk_at dksX9_init_1 12 rfl rfl)
theorem dX9_init_38 : decode cX9_init 38 = .ok (.aload_n 0, 1) := dk_42 (dk_at dksX9_init_1 15 rfl rfl)
theorem dX9_init_39 : decode cX9_init 39 = .ok (.iconst 2, 1) := dk_5 (dk_at dksX9_init_1 16 rfl rfl)
theorem dX9_init_40 : decode cX9_init 40 = .ok (.newarray .boolean, 2) := dk_188_4 (dk_at dksX9_init_1 17 rfl rfl)
theorem dX9_init_42 : decode cX9_init 42 = .ok (.putfield 21, 3) := dk_181 0 21 (dk_at dksX9_init_1 19 rfl rfl)
theorem dX9_init_45 : decode cX9_init 45 = .ok (.aload_n 0, 1) := dk_42 (dk_at dksX9_init_1 22 rfl rfl)
theorem dX9_init_46 : decode cX9_init 46 = .ok (.sipush 606, 3) := dk_17 2 94 (dk_at dksX9_init_2 0 rfl rfl)
theorem dX9_init_49 : decode cX9_init 49 = .ok (.newarray .int, 2) := dk_188_10 (dk_at dksX9_init_2 3 rfl rfl)
theorem dX9_init_51 : decode cX9_init 51 = .ok (.putfield 25, 3) := dk_181 0 25 (dk_at dksX9_init_2 5 rfl rfl)
theorem dX9_init_54 : decode cX9_init 54 = .ok (.aload_n 0, 1) := dk_42 (dk_at dksX9_init_2 8 rfl rfl)
theorem dX9_init_55 : decode cX9_init 55 = .ok (.sipush 606, 3) := dk_17 2 94 (dk_at dksX9_init_2 9 rfl rfl)
theorem dX9_init_58 : decode cX9_init 58 = .ok (.newarray .int, 2) := dk_188_10 (dk_at dksX9_init_2 12 rfl rfl)
theorem dX9_init_60 : decode cX9_init 60 = .ok (.putfield 28, 3) := dk_181 0 28 (dk_at dksX9_init_2 14 rfl rfl)
theorem dX9_init_63 : decode cX9_init 63 = .ok (.aload_n 0, 1) := dk_42 (dk_at dksX9_init_2 17 rfl rfl)
theorem dX9_init_64 : decode cX9_init 64 = .ok (.iconst 4, 1) := dk_7 (dk_at dksX9_init_2 18 rfl rfl)
theorem dX9_init_65 : decode cX9_init 65 = .ok (.sipush 606, 3) := dk_17 2 94 (dk_at dksX9_init_2 19 rfl rfl)
theorem dX9_init_68 : decode cX9_init 68 = .ok (.multianewarray 13 2, 4) := by decide +kernel
theorem dX9_init_72 : decode cX9_init 72 = .ok (.putfield 31, 3) := dk_181 0 31 (dk_at dksX9_init_3 4 rfl rfl)
theorem dX9_init_75 : decode cX9_init 75 = .ok (.aload_n 0, 1) := dk_42 (dk_at dksX9_init_3 7 rfl rfl)
theorem dX9_init_76 : decode cX9_init 76 = .ok (.iconst 4, 1) := dk_7 (dk_at dksX9_init_3 8 rfl rfl)
theorem dX9_init_77 : decode cX9_init 77 = .ok (.newarray .int, 2) := dk_188_10 (dk_at dksX9_init_3 9 rfl rfl)
theorem dX9_init_79 : decode cX9_init 79 = .ok (.putfield 34, 3) := dk_181 0 34 (dk_at dksX9_init_3 11 rfl rfl)
theorem dX9_init_82 : decode cX9_init 82 = .ok (.aload_n 0, 1) := dk_42 (dk_at dksX9_init_3 14 rfl rfl)
theorem dX9_init_83 : decode cX9_init 83 = .ok (.iconst 4, 1) := dk_7 (dk_at dksX9_init_3 15 rfl rfl)
theorem dX9_init_84 : decode cX9_init 84 = .ok (.newarray .int, 2) := dk_188_10 (dk_at dksX9_init_3 16 rfl rfl)
theorem dX9_init_86 : decode cX9_init 86 = .ok (.putfield 37, 3) := dk_181 0 37 (dk_at dksX9_init_3 18 rfl rfl)
theorem dX9_init_89 : decode cX9_init 89 = .ok (.aload_n 0, 1) := dk_42 (dk_at dksX9_init_3 21 rfl rfl)
theorem dX9_init_90 : decode cX9_init 90 = .ok (.iconst 4, 1) := dk_7 (dk_at dksX9_init_3 22 rfl rfl)
theorem dX9_init_91 : decode cX9_init 91 = .ok (.newarray .boolean, 2) := dk_188_4 (dk_at dksX9_init_4 0 rfl rfl)
theorem dX9_init_93 : decode cX9_init 93 = .ok (.putfield 40, 3) := dk_181 0 40 (dk_at dksX9_init_4 2 rfl rfl)
theorem dX9_init_96 : decode cX9_init 96 = .ok (.aload_n 0, 1) := dk_42 (dk_at dksX9_init_4 5 rfl rfl)
theorem dX9_init_97 : decode cX9_init 97 = .ok (.sipush 600, 3) := dk_17 2 88 (dk_at dksX9_init_4 6 rfl rfl)
theorem dX9_init_100 : decode cX9_init 100 = .ok (.newarray .int, 2) := dk_188_10 (dk_at dksX9_init_4 9 rfl rfl)
theorem dX9_init_102 : decode cX9_init 102 = .ok (.putfield 43, 3) := dk_181 0 43 (dk_at dksX9_init_4 11 rfl rfl)
theorem dX9_init_105 : decode cX9_init 105 = .ok (.aload_n 0, 1) := dk_42 (dk_at dksX9_init_4 14 rfl rfl)
theorem dX9_init_106 : decode cX9_init 106 = .ok (.bipush 110, 2) := dk_16 110 (dk_at dksX9_init_4 15 rfl rfl)
theorem dX9_init_108 : decode cX9_init 108 = .ok (.newarray .byte, 2) := dk_188_8 (dk_at dksX9_init_4 17 rfl rfl)
theorem dX9_init_110 : decode cX9_init 110 = .ok (.putfield 46, 3) := dk_181 0 46 (dk_at dksX9_init_4 19 rfl rfl)
theorem dX9_init_113 : decode cX9_init 113 = .ok (.aload_n 0, 1) := dk_42 (dk_at dksX9_init_4 22 rfl rfl)
theorem dX9_init_114 : decode cX9_init 114 = .ok (.sipush 400, 3) := dk_17 1 144 (dk_at dksX9_init_5 0 rfl rfl)
theorem dX9_init_117 : decode cX9_init 117 = .ok (.newarray .boolean, 2) := dk_188_4 (dk_at dksX9_init_5 3 rfl rfl)
theorem dX9_init_119 : decode cX9_init 119 = .ok (.putfield 50, 3) := dk_181 0 50 (dk_at dksX9_init_5 5 rfl rfl)
theorem dX9_init_122 : decode cX9_init 122 = .ok (.aload_n 0, 1) := dk_42 (dk_at dksX9_init_5 8 rfl rfl)
theorem dX9_init_123 : decode cX9_init 123 = .ok (.sipush 400, 3) := dk_17 1 144 (dk_at dksX9_init_5 9 rfl rfl)
theorem dX9_init_126 : decode cX9_init 126 = .ok (.newarray .int, 2) := dk_188_10 (dk_at dksX9_init_5 12 rfl rfl)
theorem dX9_init_128 : decode cX9_init 128 = .ok (.putfield 53, 3) := dk_181 0 53 (dk_at dksX9_init_5 14 rfl rfl)
theorem dX9_init_131 : decode cX9_init 131 = .ok (.aload_n 0, 1) := dk_42 (dk_at dksX9_init_5 17 rfl rfl)
theorem dX9_init_132 : decode cX9_init 132 = .ok (.sipush 400, 3) := dk_17 1 144 (dk_at dksX9_init_5 18 rfl rfl)
theorem dX9_init_135 : decode cX9_init 135 = .ok (.newarray .int, 2) := dk_188_10 (dk_at dksX9_init_5 21 rfl rfl)
theorem dX9_init_137 : decode cX9_init 137 = .ok (.putfield 56, 3) := dk_181 0 56 (dk_at dksX9_init_6 0 rfl rfl)
theorem dX9_init_140 : decode cX9_init 140 = .ok (.aload_n 0, 1) := dk_42 (dk_at dksX9_init_6 3 rfl rfl)
theorem dX9_init_141 : decode cX9_init 141 = .ok (.sipush 400, 3) := dk_17 1 144 (dk_at dksX9_init_6 4 rfl rfl)
theorem dX9_init_144 : decode cX9_init 144 = .ok (.newarray .int, 2) := dk_188_10 (dk_at dksX9_init_6 7 rfl rfl)
theorem dX9_init_146 : decode cX9_init 146 = .ok (.putfield 59, 3) := dk_181 0 59 (dk_at dksX9_init_6 9 rfl rfl)
theorem dX9_init_149 : decode cX9_init 149 = .ok (.aload_n 0, 1) := dk_42 (dk_at dksX9_init_6 12 rfl rfl)
theorem dX9_init_150 : decode cX9_init 150 = .ok (.sipush 400, 3) := dk_17 1 144 (dk_at dksX9_init_6 13 rfl rfl)
theorem dX9_init_153 : decode cX9_init 153 = .ok (.newarray .boolean, 2) := dk_188_4 (dk_at dksX9_init_6 16 rfl rfl)
theorem dX9_init_155 : decode cX9_init 155 = .ok (.putfield 62, 3) := dk_181 0 62 (dk_at dksX9_init_6 18 rfl rfl)
theorem dX9_init_158 : decode cX9_init 158 = .ok (.aload_n 0, 1) := dk_42 (dk_at dksX9_init_6 21 rfl rfl)
theorem dX9_init_159 : decode cX9_init 159 = .ok (.iconst 2, 1) := dk_5 (dk_at dksX9_init_6 22 rfl rfl)
theorem dX9_init_160 : decode cX9_init 160 = .ok (.newarray .int, 2) := dk_188_10 (dk_at dksX9_init_7 0 rfl rfl)
theorem dX9_init_162 : decode cX9_init 162 = .ok (.putfield 65, 3) := dk_181 0 65 (dk_at dksX9_init_7 2 rfl rfl)
theorem dX9_init_165 : decode cX9_init 165 = .ok (.aload_n 0, 1) := dk_42 (dk_at dksX9_init_7 5 rfl rfl)
theorem dX9_init_166 : decode cX9_init 166 = .ok (.sipush 400, 3) := dk_17 1 144 (dk_at dksX9_init_7 6 rfl rfl)
theorem dX9_init_169 : decode cX9_init 169 = .ok (.newarray .int, 2) := dk_188_10 (dk_at dksX9_init_7 9 rfl rfl)
theorem dX9_init_171 : decode cX9_init 171 = .ok (.putfield 68, 3) := dk_181 0 68 (dk_at dksX9_init_7 11 rfl rfl)
theorem dX9_init_174 : decode cX9_init 174 = .ok (.aload_n 0, 1) := dk_42 (dk_at dksX9_init_7 14 rfl rfl)
theorem dX9_init_175 : decode cX9_init 175 = .ok (.iconst 5, 1) := dk_8 (dk_at dksX9_init_7 15 rfl rfl)
theorem dX9_init_176 : decode cX9_init 176 = .ok (.iconst 4, 1) := dk_7 (dk_at dksX9_init_7 16 rfl rfl)
theorem dX9_init_177 : decode cX9_init 177 = .ok (.invokevirtual 71, 3) := dk_182 0 71 (dk_at dksX9_init_7 17 rfl rfl)
theorem dX9_init_180 : decode cX9_init 180 = .ok (.aload_n 0, 1) := dk_42 (dk_at dksX9_init_7 20 rfl rfl)
theorem dX9_init_181 : decode cX9_init 181 = .ok (.getfield 9, 3) := dk_180 0 9 (dk_at dksX9_init_7 21 rfl rfl)
theorem dX9_init_184 : decode cX9_init 184 = .ok (.iconst 3, 1) := dk_6 (dk_at dksX9_init_8 0 rfl rfl)
theorem dX9_init_185 : decode cX9_init 185 = .ok (.bipush 30, 2) := dk_16 30 (dk_at dksX9_init_8 1 rfl rfl)
theorem dX9_init_187 : decode cX9_init 187 = .ok (.iastore, 1) := dk_79 (dk_at dksX9_init_8 3 rfl rfl)
theorem dX9_init_188 : decode cX9_init 188 = .ok (.aload_n 0, 1) := dk_42 (dk_at dksX9_init_8 4 rfl rfl)
theorem dX9_init_189 : decode cX9_init 189 = .ok (.iconst 0, 1) := dk_3 (dk_at dksX9_init_8 5 rfl rfl)
theorem dX9_init_190 : decode cX9_init 190 = .ok (.iconst 1, 1) := dk_4 (dk_at dksX9_init_8 6 rfl rfl)
theorem dX9_init_191 : decode cX9_init 191 = .ok (.bipush 7, 2) := dk_16 7 (dk_at dksX9_init_8 7 rfl rfl)
theorem dX9_init_193 : decode cX9_init 193 = .ok (.iconst 1, 1) := dk_4 (dk_at dksX9_init_8 9 rfl rfl)
theorem dX9_init_194 : decode cX9_init 194 = .ok (.iconst 0, 1) := dk_3 (dk_at dksX9_init_8 10 rfl rfl)
theorem dX9_init_195 : decode cX9_init 195 = .ok (.invokevirtual 75, 3) := dk_182 0 75 (dk_at dksX9_init_8 11 rfl rfl)
theorem dX9_init_198 : decode cX9_init 198 = .ok (.aload_n 0, 1) := dk_42 (dk_at dksX9_init_8 14 rfl rfl)
theorem dX9_init_199 : decode cX9_init 199 = .ok (.iconst 3, 1) := dk_6 (dk_at dksX9_init_8 15 rfl rfl)
theorem dX9_init_200 : decode cX9_init 200 = .ok (.iconst 1, 1) := dk_4 (dk_at dksX9_init_8 16 rfl rfl)
theorem dX9_init_201 : decode cX9_init 201 = .ok (.iconst 2, 1) := dk_5 (dk_at dksX9_init_8 17 rfl rfl)
theorem dX9_init_202 : decode cX9_init 202 = .ok (.iconst 1, 1) := dk_4 (dk_at dksX9_init_8 18 rfl rfl)
theorem dX9_init_203 : decode cX9_init 203 = .ok (.iconst 0, 1) := dk_3 (dk_at dksX9_init_8 19 rfl rfl)
theorem dX9_init_204 : decode cX9_init 204 = .ok (.invokevirtual 75, 3) := dk_182 0 75 (dk_at dksX9_init_8 20 rfl rfl)
theorem dX9_init_207 : decode cX9_init 207 = .ok (.aload_n 0, 1) := dk_42 (dk_at dksX9_init_8 23 rfl rfl)
theorem dX9_init_208 : decode cX9_init 208 = .ok (.iconst 3, 1) := dk_6 (dk_at dksX9_init_9 0 rfl rfl)
theorem dX9_init_209 : decode cX9_init 209 = .ok (.iconst 3, 1) := dk_6 (dk_at dksX9_init_9 1 rfl rfl)
theorem dX9_init_210 : decode cX9_init 210 = .ok (.iconst 2, 1) := dk_5 (dk_at dksX9_init_9 2 rfl rfl)
theorem dX9_init_211 : decode cX9_init 211 = .ok (.iconst 1, 1) := dk_4 (dk_at dksX9_init_9 3 rfl rfl)
theorem dX9_init_212 : decode cX9_init 212 = .ok (.iconst 1, 1) := dk_4 (dk_at dksX9_init_9 4 rfl rfl)
theorem dX9_init_213 : decode cX9_init 213 = .ok (.invokevirtual 75, 3) := dk_182 0 75 (dk_at dksX9_init_9 5 rfl rfl)
theorem dX9_init_216 : decode cX9_init 216 = .ok (.aload_n 0, 1) := dk_42 (dk_at dksX9_init_9 8 rfl rfl)
theorem dX9_init_217 : decode cX9_init 217 = .ok (.iconst 1, 1) := dk_4 (dk_at dksX9_init_9 9 rfl rfl)
theorem dX9_init_218 : decode cX9_init 218 = .ok (.iconst 1, 1) := dk_4 (dk_at dksX9_init_9 10 rfl rfl)
theorem dX9_init_219 : decode cX9_init 219 = .ok (.iconst 3, 1) := dk_6 (dk_at dksX9_init_9 11 rfl rfl)
theorem dX9_init_220 : decode cX9_init 220 = .ok (.iconst 1, 1) := dk_4 (dk_at dksX9_init_9 12 rfl rfl)
theorem dX9_init_221 : decode cX9_init 221 = .ok (.iconst 0, 1) := dk_3 (dk_at dksX9_init_9 13 rfl rfl)
theorem dX9_init_222 : decode cX9_init 222 = .ok (.invokevirtual 75, 3) := dk_182 0 75 (dk_at dksX9_init_9 14 rfl rfl)
theorem dX9_init_225 : decode cX9_init 225 = .ok (.aload_n 0, 1) := dk_42 (dk_at dksX9_init_9 17 rfl rfl)
theorem dX9_init_226 : decode cX9_init 226 = .ok (.iconst 1, 1) := dk_4 (dk_at dksX9_init_9 18 rfl rfl)
theorem dX9_init_227 : decode cX9_init 227 = .ok (.iconst 0, 1) := dk_3 (dk_at dksX9_init_9 19 rfl rfl)
theorem dX9_init_228 : decode cX9_init 228 = .ok (.iconst 4, 1) := dk_7 (dk_at dksX9_init_9 20 rfl rfl)
theorem dX9_init_229 : decode cX9_init 229 = .ok (.iconst (-1), 1) := dk_2 (dk_at dksX9_init_9 21 rfl rfl)
theorem dX9_init_230 : decode cX9_init 230 = .ok (.iconst 2, 1) := dk_5 (dk_at dksX9_init_9 22 rfl rfl)
theorem dX9_init_231 : decode cX9_init 231 = .ok (.invokevirtual 75, 3) := dk_182 0 75 (dk_at dksX9_init_10 0 rfl rfl)
theorem dX9_init_234 : decode cX9_init 234 = .ok (.aload_n 0, 1) := dk_42 (dk_at dksX9_init_10 3 rfl rfl)
theorem dX9_init_235 : decode cX9_init 235 = .ok (.iconst 0, 1) := dk_3 (dk_at dksX9_init_10 4 rfl rfl)
theorem dX9_init_236 : decode cX9_init 236 = .ok (.iconst 3, 1) := dk_6 (dk_at dksX9_init_10 5 rfl rfl)
theorem dX9_init_237 : decode cX9_init 237 = .ok (.iconst 4, 1) := dk_7 (dk_at dksX9_init_10 6 rfl rfl)
theorem dX9_init_238 : decode cX9_init 238 = .ok (.iconst (-1), 1) := dk_2 (dk_at dksX9_init_10 7 rfl rfl)
theorem dX9_init_239 : decode cX9_init 239 = .ok (.iconst 1, 1) := dk_4 (dk_at dksX9_init_10 8 rfl rfl)
theorem dX9_init_240 : decode cX9_init 240 = .ok (.invokevirtual 75, 3) := dk_182 0 75 (dk_at dksX9_init_10 9 rfl rfl)
theorem dX9_init_243 : decode cX9_init 243 = .ok (.aload_n 0, 1) := dk_42 (dk_at dksX9_init_10 12 rfl rfl)
theorem dX9_init_244 : decode cX9_init 244 = .ok (.invokevirtual 79, 3) := dk_182 0 79 (dk_at dksX9_init_10 13 rfl rfl)
theorem dX9_init_247 : decode cX9_init 247 = .ok (.pop, 1) := dk_87 (dk_at dksX9_init_10 16 rfl rfl)
theorem dX9_init_248 : decode cX9_init 248 = .ok (.return_, 1) := dk_177 (dk_at dksX9_init_10 17 rfl rfl)
abbrev cX9_begin : ByteArray := prog_15_method_4_code
def yX9_begin : MethodName := ⟨RX9, "begin", "(II)V"⟩
def dkwX9_begin_3 : List UInt8 := [167, 255, 242, 177]
abbrev dktX9_begin_3 : List UInt8 := dkwX9_begin_3 ++ []
def dkwX9_begin_2 : List UInt8 := [180, 0, 9, 8, 4, 79, 3, 62, 29, 16, 100, 162, 0, 14, 42, 29, 182, 0, 87, 132, 3, 1]
abbrev dktX9_begin_2 : List UInt8 := dkwX9_begin_2 ++ dktX9_begin_3
def dkwX9_begin_1 : List UInt8 := [180, 0, 9, 3, 27, 79, 42, 180, 0, 9, 4, 28, 79, 42, 180, 0, 9, 6, 16, 20, 79, 42]
abbrev dktX9_begin_1 : List UInt8 := dkwX9_begin_1 ++ dktX9_begin_2
def dkwX9_begin_0 : List UInt8 := [3, 62, 29, 17, 2, 94, 162, 0, 16, 42, 180, 0, 9, 29, 3, 79, 132, 3, 1, 167, 255, 239, 42]
abbrev dktX9_begin_0 : List UInt8 := dkwX9_begin_0 ++ dktX9_begin_1
theorem dksX9_begin_0 : cX9_begin.data.toList.drop 0 = dktX9_begin_0 := by decide +kernel
theorem dksX9_begin_1 : cX9_begin.data.toList.drop 23 = dktX9_begin_1 := dk_seg dksX9_begin_0 23 rfl rfl
theorem dksX9_begin_2 : cX9_begin.data.toList.drop 45 = dktX9_begin_2 := dk_seg dksX9_begin_1 22 rfl rfl
theorem dksX9_begin_3 : cX9_begin.data.toList.drop 67 = dktX9_begin_3 := dk_seg dksX9_begin_2 22 rfl rfl
theorem dX9_begin_0 : decode cX9_begin 0 = .ok (.iconst 0, 1) := dk_3 (dk_at dksX9_begin_0 0 rfl rfl)
theorem dX9_begin_1 : decode cX9_begin 1 = .ok (.istore_n 3, 1) := dk_62 (dk_at dksX9_begin_0 1 rfl rfl)
theorem dX9_begin_2 : decode cX9_begin 2 = .ok (.iload_n 3, 1) := dk_29 (dk_at dksX9_begin_0 2 rfl rfl)
theorem dX9_begin_3 : decode cX9_begin 3 = .ok (.sipush 606, 3) := dk_17 2 94 (dk_at dksX9_begin_0 3 rfl rfl)
theorem dX9_begin_6 : decode cX9_begin 6 = .ok (.if_icmp .ge 16, 3) := dk_162 0 16 (dk_at dksX9_begin_0 6 rfl rfl)
theorem dX9_begin_9 : decode cX9_begin 9 = .ok (.aload_n 0, 1) := dk_42 (dk_at dksX9_begin_0 9 rfl rfl)
theorem dX9_begin_10 : decode cX9_begin 10 = .ok (.getfield 9, 3) := dk_180 0 9 (dk_at dksX9_begin_0 10 rfl rfl)
theorem dX9_begin_13 : decode cX9_begin 13 = .ok (.iload_n 3, 1) := dk_29 (dk_at dksX9_begin_0 13 rfl rfl)
theorem dX9_begin_14 : decode cX9_begin 14 = .ok (.iconst 0, 1) := dk_3 (dk_at dksX9_begin_0 14 rfl rfl)
theorem dX9_begin_15 : decode cX9_begin 15 = .ok (.iastore, 1) := dk_79 (dk_at dksX9_begin_0 15 rfl rfl)
theorem dX9_begin_16 : decode cX9_begin 16 = .ok (.iinc 3 1, 3) := dk_132 3 1 (dk_at dksX9_begin_0 16 rfl rfl)
theorem dX9_begin_19 : decode cX9_begin 19 = .ok (.goto (-17), 3) := dk_167 255 239 (dk_at dksX9_begin_0 19 rfl rfl)
theorem dX9_begin_22 : decode cX9_begin 22 = .ok (.aload_n 0, 1) := dk_42 (dk_at dksX9_begin_0 22 rfl rfl)
theorem dX9_begin_23 : decode cX9_begin 23 = .ok (.getfield 9, 3) := dk_180 0 9 (dk_at dksX9_begin_1 0 rfl rfl)
theorem dX9_begin_26 : decode cX9_begin 26 = .ok (.iconst 0, 1) := dk_3 (dk_at dksX9_begin_1 3 rfl rfl)
theorem dX9_begin_27 : decode cX9_begin 27 = .ok (.iload_n 1, 1) := dk_27 (dk_at dksX9_begin_1 4 rfl rfl)
theorem dX9_begin_28 : decode cX9_begin 28 = .ok (.iastore, 1) := dk_79 (dk_at dksX9_begin_1 5 rfl rfl)
theorem dX9_begin_29 : decode cX9_begin 29 = .ok (.aload_n 0, 1) := dk_42 (dk_at dksX9_begin_1 6 rfl rfl)
theorem dX9_begin_30 : decode cX9_begin 30 = .ok (.getfield 9, 3) := dk_180 0 9 (dk_at dksX9_begin_1 7 rfl rfl)
theorem dX9_begin_33 : decode cX9_begin 33 = .ok (.iconst 1, 1) := dk_4 (dk_at dksX9_begin_1 10 rfl rfl)
theorem dX9_begin_34 : decode cX9_begin 34 = .ok (.iload_n 2, 1) := dk_28 (dk_at dksX9_begin_1 11 rfl rfl)
theorem dX9_begin_35 : decode cX9_begin 35 = .ok (.iastore, 1) := dk_79 (dk_at dksX9_begin_1 12 rfl rfl)
theorem dX9_begin_36 : decode cX9_begin 36 = .ok (.aload_n 0, 1) := dk_42 (dk_at dksX9_begin_1 13 rfl rfl)
theorem dX9_begin_37 : decode cX9_begin 37 = .ok (.getfield 9, 3) := dk_180 0 9 (dk_at dksX9_begin_1 14 rfl rfl)
theorem dX9_begin_40 : decode cX9_begin 40 = .ok (.iconst 3, 1) := dk_6 (dk_at dksX9_begin_1 17 rfl rfl)
theorem dX9_begin_41 : decode cX9_begin 41 = .ok (.bipush 20, 2) := dk_16 20 (dk_at dksX9_begin_1 18 rfl rfl)
theorem dX9_begin_43 : decode cX9_begin 43 = .ok (.iastore, 1) := dk_79 (dk_at dksX9_begin_1 20 rfl rfl)
theorem dX9_begin_44 : decode cX9_begin 44 = .ok (.aload_n 0, 1) := dk_42 (dk_at dksX9_begin_1 21 rfl rfl)
theorem dX9_begin_45 : decode cX9_begin 45 = .ok (.getfield 9, 3) := dk_180 0 9 (dk_at dksX9_begin_2 0 rfl rfl)
theorem dX9_begin_48 : decode cX9_begin 48 = .ok (.iconst 5, 1) := dk_8 (dk_at dksX9_begin_2 3 rfl rfl)
theorem dX9_begin_49 : decode cX9_begin 49 = .ok (.iconst 1, 1) := dk_4 (dk_at dksX9_begin_2 4 rfl rfl)
theorem dX9_begin_50 : decode cX9_begin 50 = .ok (.iastore, 1) := dk_79 (dk_at dksX9_begin_2 5 rfl rfl)
theorem dX9_begin_51 : decode cX9_begin 51 = .ok (.iconst 0, 1) := dk_3 (dk_at dksX9_begin_2 6 rfl rfl)
theorem dX9_begin_52 : decode cX9_begin 52 = .ok (.istore_n 3, 1) := dk_62 (dk_at dksX9_begin_2 7 rfl rfl)
theorem dX9_begin_53 : decode cX9_begin 53 = .ok (.iload_n 3, 1) := dk_29 (dk_at dksX9_begin_2 8 rfl rfl)
theorem dX9_begin_54 : decode cX9_begin 54 = .ok (.bipush 100, 2) := dk_16 100 (dk_at dksX9_begin_2 9 rfl rfl)
theorem dX9_begin_56 : decode cX9_begin 56 = .ok (.if_icmp .ge 14, 3) := dk_162 0 14 (dk_at dksX9_begin_2 11 rfl rfl)
theorem dX9_begin_59 : decode cX9_begin 59 = .ok (.aload_n 0, 1) := dk_42 (dk_at dksX9_begin_2 14 rfl rfl)
theorem dX9_begin_60 : decode cX9_begin 60 = .ok (.iload_n 3, 1) := dk_29 (dk_at dksX9_begin_2 15 rfl rfl)
theorem dX9_begin_61 : decode cX9_begin 61 = .ok (.invokevirtual 87, 3) := dk_182 0 87 (dk_at dksX9_begin_2 16 rfl rfl)
theorem dX9_begin_64 : decode cX9_begin 64 = .ok (.iinc 3 1, 3) := dk_132 3 1 (dk_at dksX9_begin_2 19 rfl rfl)
theorem dX9_begin_67 : decode cX9_begin 67 = .ok (.goto (-14), 3) := dk_167 255 242 (dk_at dksX9_begin_3 0 rfl rfl)
theorem dX9_begin_70 : decode cX9_begin 70 = .ok (.return_, 1) := dk_177 (dk_at dksX9_begin_3 3 rfl rfl)
abbrev cX9_empty : ByteArray := prog_15_method_11_code
def yX9_empty : MethodName := ⟨RX9, "empty", "(I)V"⟩
def dkwX9_empty_1 : List UInt8 := [3, 182, 0, 98, 42, 27, 7, 3, 182, 0, 98, 42, 27, 8, 2, 182, 0, 98, 177]
abbrev dktX9_empty_1 : List UInt8 := dkwX9_empty_1 ++ []
def dkwX9_empty_0 : List UInt8 := [42, 27, 3, 3, 182, 0, 98, 42, 27, 4, 2, 182, 0, 98, 42, 27, 5, 3, 182, 0, 98, 42, 27, 6]
abbrev dktX9_empty_0 : List UInt8 := dkwX9_empty_0 ++ dktX9_empty_1
theorem dksX9_empty_0 : cX9_empty.data.toList.drop 0 = dktX9_empty_0 := by decide +kernel
theorem dksX9_empty_1 : cX9_empty.data.toList.drop 24 = dktX9_empty_1 := dk_seg dksX9_empty_0 24 rfl rfl
theorem dX9_empty_0 : decode cX9_empty 0 = .ok (.aload_n 0, 1) := dk_42 (dk_at dksX9_empty_0 0 rfl rfl)
theorem dX9_empty_1 : decode cX9_empty 1 = .ok (.iload_n 1, 1) := dk_27 (dk_at dksX9_empty_0 1 rfl rfl)
theorem dX9_empty_2 : decode cX9_empty 2 = .ok (.iconst 0, 1) := dk_3 (dk_at dksX9_empty_0 2 rfl rfl)
theorem dX9_empty_3 : decode cX9_empty 3 = .ok (.iconst 0, 1) := dk_3 (dk_at dksX9_empty_0 3 rfl rfl)
theorem dX9_empty_4 : decode cX9_empty 4 = .ok (.invokevirtual 98, 3) := dk_182 0 98 (dk_at dksX9_empty_0 4 rfl rfl)
theorem dX9_empty_7 : decode cX9_empty 7 = .ok (.aload_n 0, 1) := dk_42 (dk_at dksX9_empty_0 7 rfl rfl)
theorem dX9_empty_8 : decode cX9_empty 8 = .ok (.iload_n 1, 1) := dk_27 (dk_at dksX9_empty_0 8 rfl rfl)
theorem dX9_empty_9 : decode cX9_empty 9 = .ok (.iconst 1, 1) := dk_4 (dk_at dksX9_empty_0 9 rfl rfl)
theorem dX9_empty_10 : decode cX9_empty 10 = .ok (.iconst (-1), 1) := dk_2 (dk_at dksX9_empty_0 10 rfl rfl)
theorem dX9_empty_11 : decode cX9_empty 11 = .ok (.invokevirtual 98, 3) := dk_182 0 98 (dk_at dksX9_empty_0 11 rfl rfl)
theorem dX9_empty_14 : decode cX9_empty 14 = .ok (.aload_n 0, 1) := dk_42 (dk_at dksX9_empty_0 14 rfl rfl)
theorem dX9_empty_15 : decode cX9_empty 15 = .ok (.iload_n 1, 1) := dk_27 (dk_at dksX9_empty_0 15 rfl rfl)
theorem dX9_empty_16 : decode cX9_empty 16 = .ok (.iconst 2, 1) := dk_5 (dk_at dksX9_empty_0 16 rfl rfl)
theorem dX9_empty_17 : decode cX9_empty 17 = .ok (.iconst 0, 1) := dk_3 (dk_at dksX9_empty_0 17 rfl rfl)
theorem dX9_empty_18 : decode cX9_empty 18 = .ok (.invokevirtual 98, 3) := dk_182 0 98 (dk_at dksX9_empty_0 18 rfl rfl)
theorem dX9_empty_21 : decode cX9_empty 21 = .ok (.aload_n 0, 1) := dk_42 (dk_at dksX9_empty_0 21 rfl rfl)
theorem dX9_empty_22 : decode cX9_empty 22 = .ok (.iload_n 1, 1) := dk_27 (dk_at dksX9_empty_0 22 rfl rfl)
theorem dX9_empty_23 : decode cX9_empty 23 = .ok (.iconst 3, 1) := dk_6 (dk_at dksX9_empty_0 23 rfl rfl)
theorem dX9_empty_24 : decode cX9_empty 24 = .ok (.iconst 0, 1) := dk_3 (dk_at dksX9_empty_1 0 rfl rfl)
theorem dX9_empty_25 : decode cX9_empty 25 = .ok (.invokevirtual 98, 3) := dk_182 0 98 (dk_at dksX9_empty_1 1 rfl rfl)
theorem dX9_empty_28 : decode cX9_empty 28 = .ok (.aload_n 0, 1) := dk_42 (dk_at dksX9_empty_1 4 rfl rfl)
theorem dX9_empty_29 : decode cX9_empty 29 = .ok (.iload_n 1, 1) := dk_27 (dk_at dksX9_empty_1 5 rfl rfl)
theorem dX9_empty_30 : decode cX9_empty 30 = .ok (.iconst 4, 1) := dk_7 (dk_at dksX9_empty_1 6 rfl rfl)
theorem dX9_empty_31 : decode cX9_empty 31 = .ok (.iconst 0, 1) := dk_3 (dk_at dksX9_empty_1 7 rfl rfl)
theorem dX9_empty_32 : decode cX9_empty 32 = .ok (.invokevirtual 98, 3) := dk_182 0 98 (dk_at dksX9_empty_1 8 rfl rfl)
theorem dX9_empty_35 : decode cX9_empty 35 = .ok (.aload_n 0, 1) := dk_42 (dk_at dksX9_empty_1 11 rfl rfl)
theorem dX9_empty_36 : decode cX9_empty 36 = .ok (.iload_n 1, 1) := dk_27 (dk_at dksX9_empty_1 12 rfl rfl)
theorem dX9_empty_37 : decode cX9_empty 37 = .ok (.iconst 5, 1) := dk_8 (dk_at dksX9_empty_1 13 rfl rfl)
theorem dX9_empty_38 : decode cX9_empty 38 = .ok (.iconst (-1), 1) := dk_2 (dk_at dksX9_empty_1 14 rfl rfl)
theorem dX9_empty_39 : decode cX9_empty 39 = .ok (.invokevirtual 98, 3) := dk_182 0 98 (dk_at dksX9_empty_1 15 rfl rfl)
theorem dX9_empty_42 : decode cX9_empty 42 = .ok (.return_, 1) := dk_177 (dk_at dksX9_empty_1 18 rfl rfl)
abbrev cX9_put : ByteArray := prog_15_method_7_code
def yX9_put : MethodName := ⟨RX9, "put", "(III)V"⟩
def dkwX9_put_0 : List UInt8 := [42, 180, 0, 9, 16, 6, 27, 16, 6, 104, 96, 28, 96, 29, 79, 177]
abbrev dktX9_put_0 : List UInt8 := dkwX9_put_0 ++ []
theorem dksX9_put_0 : cX9_put.data.toList.drop 0 = dktX9_put_0 := by decide +kernel
theorem dX9_put_0 : decode cX9_put 0 = .ok (.aload_n 0, 1) := dk_42 (dk_at dksX9_put_0 0 rfl rfl)
theorem dX9_put_1 : decode cX9_put 1 = .ok (.getfield 9, 3) := dk_180 0 9 (dk_at dksX9_put_0 1 rfl rfl)
theorem dX9_put_4 : decode cX9_put 4 = .ok (.bipush 6, 2) := dk_16 6 (dk_at dksX9_put_0 4 rfl rfl)
theorem dX9_put_6 : decode cX9_put 6 = .ok (.iload_n 1, 1) := dk_27 (dk_at dksX9_put_0 6 rfl rfl)
theorem dX9_put_7 : decode cX9_put 7 = .ok (.bipush 6, 2) := dk_16 6 (dk_at dksX9_put_0 7 rfl rfl)
theorem dX9_put_9 : decode cX9_put 9 = .ok (.imul, 1) := dk_104 (dk_at dksX9_put_0 9 rfl rfl)
theorem dX9_put_10 : decode cX9_put 10 = .ok (.iadd, 1) := dk_96 (dk_at dksX9_put_0 10 rfl rfl)
theorem dX9_put_11 : decode cX9_put 11 = .ok (.iload_n 2, 1) := dk_28 (dk_at dksX9_put_0 11 rfl rfl)
theorem dX9_put_12 : decode cX9_put 12 = .ok (.iadd, 1) := dk_96 (dk_at dksX9_put_0 12 rfl rfl)
theorem dX9_put_13 : decode cX9_put 13 = .ok (.iload_n 3, 1) := dk_29 (dk_at dksX9_put_0 13 rfl rfl)
theorem dX9_put_14 : decode cX9_put 14 = .ok (.iastore, 1) := dk_79 (dk_at dksX9_put_0 14 rfl rfl)
theorem dX9_put_15 : decode cX9_put 15 = .ok (.return_, 1) := dk_177 (dk_at dksX9_put_0 15 rfl rfl)
abbrev cX9_lay : ByteArray := prog_15_method_12_code
def yX9_lay : MethodName := ⟨RX9, "lay", "(IIIII)V"⟩
def dkwX9_lay_1 : List UInt8 := [21, 6, 4, 21, 4, 182, 0, 98, 42, 21, 6, 5, 21, 5, 182, 0, 98, 177]
abbrev dktX9_lay_1 : List UInt8 := dkwX9_lay_1 ++ []
def dkwX9_lay_0 : List UInt8 := [42, 27, 28, 182, 0, 102, 54, 6, 42, 21, 6, 182, 0, 87, 42, 21, 6, 3, 29, 182, 0, 98, 42]
abbrev dktX9_lay_0 : List UInt8 := dkwX9_lay_0 ++ dktX9_lay_1
theorem dksX9_lay_0 : cX9_lay.data.toList.drop 0 = dktX9_lay_0 := by decide +kernel
theorem dksX9_lay_1 : cX9_lay.data.toList.drop 23 = dktX9_lay_1 := dk_seg dksX9_lay_0 23 rfl rfl
theorem dX9_lay_0 : decode cX9_lay 0 = .ok (.aload_n 0, 1) := dk_42 (dk_at dksX9_lay_0 0 rfl rfl)
theorem dX9_lay_1 : decode cX9_lay 1 = .ok (.iload_n 1, 1) := dk_27 (dk_at dksX9_lay_0 1 rfl rfl)
theorem dX9_lay_2 : decode cX9_lay 2 = .ok (.iload_n 2, 1) := dk_28 (dk_at dksX9_lay_0 2 rfl rfl)
theorem dX9_lay_3 : decode cX9_lay 3 = .ok (.invokevirtual 102, 3) := dk_182 0 102 (dk_at dksX9_lay_0 3 rfl rfl)
theorem dX9_lay_6 : decode cX9_lay 6 = .ok (.istore 6, 2) := dk_54 6 (dk_at dksX9_lay_0 6 rfl rfl)
theorem dX9_lay_8 : decode cX9_lay 8 = .ok (.aload_n 0, 1) := dk_42 (dk_at dksX9_lay_0 8 rfl rfl)
theorem dX9_lay_9 : decode cX9_lay 9 = .ok (.iload 6, 2) := dk_21 6 (dk_at dksX9_lay_0 9 rfl rfl)
theorem dX9_lay_11 : decode cX9_lay 11 = .ok (.invokevirtual 87, 3) := dk_182 0 87 (dk_at dksX9_lay_0 11 rfl rfl)
theorem dX9_lay_14 : decode cX9_lay 14 = .ok (.aload_n 0, 1) := dk_42 (dk_at dksX9_lay_0 14 rfl rfl)
theorem dX9_lay_15 : decode cX9_lay 15 = .ok (.iload 6, 2) := dk_21 6 (dk_at dksX9_lay_0 15 rfl rfl)
theorem dX9_lay_17 : decode cX9_lay 17 = .ok (.iconst 0, 1) := dk_3 (dk_at dksX9_lay_0 17 rfl rfl)
theorem dX9_lay_18 : decode cX9_lay 18 = .ok (.iload_n 3, 1) := dk_29 (dk_at dksX9_lay_0 18 rfl rfl)
theorem dX9_lay_19 : decode cX9_lay 19 = .ok (.invokevirtual 98, 3) := dk_182 0 98 (dk_at dksX9_lay_0 19 rfl rfl)
theorem dX9_lay_22 : decode cX9_lay 22 = .ok (.aload_n 0, 1) := dk_42 (dk_at dksX9_lay_0 22 rfl rfl)
theorem dX9_lay_23 : decode cX9_lay 23 = .ok (.iload 6, 2) := dk_21 6 (dk_at dksX9_lay_1 0 rfl rfl)
theorem dX9_lay_25 : decode cX9_lay 25 = .ok (.iconst 1, 1) := dk_4 (dk_at dksX9_lay_1 2 rfl rfl)
theorem dX9_lay_26 : decode cX9_lay 26 = .ok (.iload 4, 2) := dk_21 4 (dk_at dksX9_lay_1 3 rfl rfl)
theorem dX9_lay_28 : decode cX9_lay 28 = .ok (.invokevirtual 98, 3) := dk_182 0 98 (dk_at dksX9_lay_1 5 rfl rfl)
theorem dX9_lay_31 : decode cX9_lay 31 = .ok (.aload_n 0, 1) := dk_42 (dk_at dksX9_lay_1 8 rfl rfl)
theorem dX9_lay_32 : decode cX9_lay 32 = .ok (.iload 6, 2) := dk_21 6 (dk_at dksX9_lay_1 9 rfl rfl)
theorem dX9_lay_34 : decode cX9_lay 34 = .ok (.iconst 2, 1) := dk_5 (dk_at dksX9_lay_1 11 rfl rfl)
theorem dX9_lay_35 : decode cX9_lay 35 = .ok (.iload 5, 2) := dk_21 5 (dk_at dksX9_lay_1 12 rfl rfl)
theorem dX9_lay_37 : decode cX9_lay 37 = .ok (.invokevirtual 98, 3) := dk_182 0 98 (dk_at dksX9_lay_1 14 rfl rfl)
theorem dX9_lay_40 : decode cX9_lay 40 = .ok (.return_, 1) := dk_177 (dk_at dksX9_lay_1 17 rfl rfl)
abbrev cX9_cellAt : ByteArray := prog_15_method_8_code
def yX9_cellAt : MethodName := ⟨RX9, "cellAt", "(II)I"⟩
def dkwX9_cellAt_0 : List UInt8 := [16, 10, 28, 104, 27, 96, 172]
abbrev dktX9_cellAt_0 : List UInt8 := dkwX9_cellAt_0 ++ []
theorem dksX9_cellAt_0 : cX9_cellAt.data.toList.drop 0 = dktX9_cellAt_0 := by decide +kernel
theorem dX9_cellAt_0 : decode cX9_cellAt 0 = .ok (.bipush 10, 2) := dk_16 10 (dk_at dksX9_cellAt_0 0 rfl rfl)
theorem dX9_cellAt_2 : decode cX9_cellAt 2 = .ok (.iload_n 2, 1) := dk_28 (dk_at dksX9_cellAt_0 2 rfl rfl)
theorem dX9_cellAt_3 : decode cX9_cellAt 3 = .ok (.imul, 1) := dk_104 (dk_at dksX9_cellAt_0 3 rfl rfl)
theorem dX9_cellAt_4 : decode cX9_cellAt 4 = .ok (.iload_n 1, 1) := dk_27 (dk_at dksX9_cellAt_0 4 rfl rfl)
theorem dX9_cellAt_5 : decode cX9_cellAt 5 = .ok (.iadd, 1) := dk_96 (dk_at dksX9_cellAt_0 5 rfl rfl)
theorem dX9_cellAt_6 : decode cX9_cellAt 6 = .ok (.ireturn, 1) := dk_172 (dk_at dksX9_cellAt_0 6 rfl rfl)
abbrev cX9_openAll : ByteArray := prog_15_method_31_code
def yX9_openAll : MethodName := ⟨RX9, "openAll", "()I"⟩
def dkwX9_openAll_4 : List UInt8 := [46, 154, 0, 11, 42, 21, 5, 8, 2, 182, 0, 98, 132, 4, 1, 167, 255, 164, 28, 172]
abbrev dktX9_openAll_4 : List UInt8 := dkwX9_openAll_4 ++ []
def dkwX9_openAll_3 : List UInt8 := [180, 0, 9, 7, 46, 182, 0, 98, 132, 2, 1, 167, 0, 25, 21, 6, 154, 0, 20, 42, 180, 0, 9, 7]
abbrev dktX9_openAll_3 : List UInt8 := dkwX9_openAll_3 ++ dktX9_openAll_4
def dkwX9_openAll_2 : List UInt8 := [54, 6, 21, 6, 153, 0, 33, 42, 21, 5, 8, 182, 0, 106, 2, 160, 0, 22, 42, 21, 5, 8, 42]
abbrev dktX9_openAll_2 : List UInt8 := dkwX9_openAll_2 ++ dktX9_openAll_3
def dkwX9_openAll_1 : List UInt8 := [21, 4, 7, 182, 0, 120, 54, 5, 27, 21, 4, 122, 4, 126, 4, 160, 0, 7, 4, 167, 0, 4, 3]
abbrev dktX9_openAll_1 : List UInt8 := dkwX9_openAll_1 ++ dktX9_openAll_2
def dkwX9_openAll_0 : List UInt8 := [42, 182, 0, 167, 60, 3, 61, 42, 7, 182, 0, 161, 62, 3, 54, 4, 21, 4, 29, 162, 0, 92, 42]
abbrev dktX9_openAll_0 : List UInt8 := dkwX9_openAll_0 ++ dktX9_openAll_1
theorem dksX9_openAll_0 : cX9_openAll.data.toList.drop 0 = dktX9_openAll_0 := by decide +kernel
theorem dksX9_openAll_1 : cX9_openAll.data.toList.drop 23 = dktX9_openAll_1 := dk_seg dksX9_openAll_0 23 rfl rfl
theorem dksX9_openAll_2 : cX9_openAll.data.toList.drop 46 = dktX9_openAll_2 := dk_seg dksX9_openAll_1 23 rfl rfl
theorem dksX9_openAll_3 : cX9_openAll.data.toList.drop 69 = dktX9_openAll_3 := dk_seg dksX9_openAll_2 23 rfl rfl
theorem dksX9_openAll_4 : cX9_openAll.data.toList.drop 93 = dktX9_openAll_4 := dk_seg dksX9_openAll_3 24 rfl rfl
theorem dX9_openAll_0 : decode cX9_openAll 0 = .ok (.aload_n 0, 1) := dk_42 (dk_at dksX9_openAll_0 0 rfl rfl)
theorem dX9_openAll_1 : decode cX9_openAll 1 = .ok (.invokevirtual 167, 3) := dk_182 0 167 (dk_at dksX9_openAll_0 1 rfl rfl)
theorem dX9_openAll_4 : decode cX9_openAll 4 = .ok (.istore_n 1, 1) := dk_60 (dk_at dksX9_openAll_0 4 rfl rfl)
theorem dX9_openAll_5 : decode cX9_openAll 5 = .ok (.iconst 0, 1) := dk_3 (dk_at dksX9_openAll_0 5 rfl rfl)
theorem dX9_openAll_6 : decode cX9_openAll 6 = .ok (.istore_n 2, 1) := dk_61 (dk_at dksX9_openAll_0 6 rfl rfl)
theorem dX9_openAll_7 : decode cX9_openAll 7 = .ok (.aload_n 0, 1) := dk_42 (dk_at dksX9_openAll_0 7 rfl rfl)
theorem dX9_openAll_8 : decode cX9_openAll 8 = .ok (.iconst 4, 1) := dk_7 (dk_at dksX9_openAll_0 8 rfl rfl)
theorem dX9_openAll_9 : decode cX9_openAll 9 = .ok (.invokevirtual 161, 3) := dk_182 0 161 (dk_at dksX9_openAll_0 9 rfl rfl)
theorem dX9_openAll_12 : decode cX9_openAll 12 = .ok (.istore_n 3, 1) := dk_62 (dk_at dksX9_openAll_0 12 rfl rfl)
theorem dX9_openAll_13 : decode cX9_openAll 13 = .ok (.iconst 0, 1) := dk_3 (dk_at dksX9_openAll_0 13 rfl rfl)
theorem dX9_openAll_14 : decode cX9_openAll 14 = .ok (.istore 4, 2) := dk_54 4 (dk_at dksX9_openAll_0 14 rfl rfl)
theorem dX9_openAll_16 : decode cX9_openAll 16 = .ok (.iload 4, 2) := dk_21 4 (dk_at dksX9_openAll_0 16 rfl rfl)
theorem dX9_openAll_18 : decode cX9_openAll 18 = .ok (.iload_n 3, 1) := dk_29 (dk_at dksX9_openAll_0 18 rfl rfl)
theorem dX9_openAll_19 : decode cX9_openAll 19 = .ok (.if_icmp .ge 92, 3) := dk_162 0 92 (dk_at dksX9_openAll_0 19 rfl rfl)
theorem dX9_openAll_22 : decode cX9_openAll 22 = .ok (.aload_n 0, 1) := dk_42 (dk_at dksX9_openAll_0 22 rfl rfl)
theorem dX9_openAll_23 : decode cX9_openAll 23 = .ok (.iload 4, 2) := dk_21 4 (dk_at dksX9_openAll_1 0 rfl rfl)
theorem dX9_openAll_25 : decode cX9_openAll 25 = .ok (.iconst 4, 1) := dk_7 (dk_at dksX9_openAll_1 2 rfl rfl)
theorem dX9_openAll_26 : decode cX9_openAll 26 = .ok (.invokevirtual 120, 3) := dk_182 0 120 (dk_at dksX9_openAll_1 3 rfl rfl)
theorem dX9_openAll_29 : decode cX9_openAll 29 = .ok (.istore 5, 2) := dk_54 5 (dk_at dksX9_openAll_1 6 rfl rfl)
theorem dX9_openAll_31 : decode cX9_openAll 31 = .ok (.iload_n 1, 1) := dk_27 (dk_at dksX9_openAll_1 8 rfl rfl)
theorem dX9_openAll_32 : decode cX9_openAll 32 = .ok (.iload 4, 2) := dk_21 4 (dk_at dksX9_openAll_1 9 rfl rfl)
theorem dX9_openAll_34 : decode cX9_openAll 34 = .ok (.ishr, 1) := dk_122 (dk_at dksX9_openAll_1 11 rfl rfl)
theorem dX9_openAll_35 : decode cX9_openAll 35 = .ok (.iconst 1, 1) := dk_4 (dk_at dksX9_openAll_1 12 rfl rfl)
theorem dX9_openAll_36 : decode cX9_openAll 36 = .ok (.iand, 1) := dk_126 (dk_at dksX9_openAll_1 13 rfl rfl)
theorem dX9_openAll_37 : decode cX9_openAll 37 = .ok (.iconst 1, 1) := dk_4 (dk_at dksX9_openAll_1 14 rfl rfl)
theorem dX9_openAll_38 : decode cX9_openAll 38 = .ok (.if_icmp .ne 7, 3) := dk_160 0 7 (dk_at dksX9_openAll_1 15 rfl rfl)
theorem dX9_openAll_41 : decode cX9_openAll 41 = .ok (.iconst 1, 1) := dk_4 (dk_at dksX9_openAll_1 18 rfl rfl)
theorem dX9_openAll_42 : decode cX9_openAll 42 = .ok (.goto 4, 3) := dk_167 0 4 (dk_at dksX9_openAll_1 19 rfl rfl)
theorem dX9_openAll_45 : decode cX9_openAll 45 = .ok (.iconst 0, 1) := dk_3 (dk_at dksX9_openAll_1 22 rfl rfl)
theorem dX9_openAll_46 : decode cX9_openAll 46 = .ok (.istore 6, 2) := dk_54 6 (dk_at dksX9_openAll_2 0 rfl rfl)
theorem dX9_openAll_48 : decode cX9_openAll 48 = .ok (.iload 6, 2) := dk_21 6 (dk_at dksX9_openAll_2 2 rfl rfl)
theorem dX9_openAll_50 : decode cX9_openAll 50 = .ok (.ifCond .eq 33, 3) := dk_153 0 33 (dk_at dksX9_openAll_2 4 rfl rfl)
theorem dX9_openAll_53 : decode cX9_openAll 53 = .ok (.aload_n 0, 1) := dk_42 (dk_at dksX9_openAll_2 7 rfl rfl)
theorem dX9_openAll_54 : decode cX9_openAll 54 = .ok (.iload 5, 2) := dk_21 5 (dk_at dksX9_openAll_2 8 rfl rfl)
theorem dX9_openAll_56 : decode cX9_openAll 56 = .ok (.iconst 5, 1) := dk_8 (dk_at dksX9_openAll_2 10 rfl rfl)
theorem dX9_openAll_57 : decode cX9_openAll 57 = .ok (.invokevirtual 106, 3) := dk_182 0 106 (dk_at dksX9_openAll_2 11 rfl rfl)
theorem dX9_openAll_60 : decode cX9_openAll 60 = .ok (.iconst (-1), 1) := dk_2 (dk_at dksX9_openAll_2 14 rfl rfl)
theorem dX9_openAll_61 : decode cX9_openAll 61 = .ok (.if_icmp .ne 22, 3) := dk_160 0 22 (dk_at dksX9_openAll_2 15 rfl rfl)
theorem dX9_openAll_64 : decode cX9_openAll 64 = .ok (.aload_n 0, 1) := dk_42 (dk_at dksX9_openAll_2 18 rfl rfl)
theorem dX9_openAll_65 : decode cX9_openAll 65 = .ok (.iload 5, 2) := dk_21 5 (dk_at dksX9_openAll_2 19 rfl rfl)
theorem dX9_openAll_67 : decode cX9_openAll 67 = .ok (.iconst 5, 1) := dk_8 (dk_at dksX9_openAll_2 21 rfl rfl)
theorem dX9_openAll_68 : decode cX9_openAll 68 = .ok (.aload_n 0, 1) := dk_42 (dk_at dksX9_openAll_2 22 rfl rfl)
theorem dX9_openAll_69 : decode cX9_openAll 69 = .ok (.getfield 9, 3) := dk_180 0 9 (dk_at dksX9_openAll_3 0 rfl rfl)
theorem dX9_openAll_72 : decode cX9_openAll 72 = .ok (.iconst 4, 1) := dk_7 (dk_at dksX9_openAll_3 3 rfl rfl)
theorem dX9_openAll_73 : decode cX9_openAll 73 = .ok (.iaload, 1) := dk_46 (dk_at dksX9_openAll_3 4 rfl rfl)
theorem dX9_openAll_74 : decode cX9_openAll 74 = .ok (.invokevirtual 98, 3) := dk_182 0 98 (dk_at dksX9_openAll_3 5 rfl rfl)
theorem dX9_openAll_77 : decode cX9_openAll 77 = .ok (.iinc 2 1, 3) := dk_132 2 1 (dk_at dksX9_openAll_3 8 rfl rfl)
theorem dX9_openAll_80 : decode cX9_openAll 80 = .ok (.goto 25, 3) := dk_167 0 25 (dk_at dksX9_openAll_3 11 rfl rfl)
theorem dX9_openAll_83 : decode cX9_openAll 83 = .ok (.iload 6, 2) := dk_21 6 (dk_at dksX9_openAll_3 14 rfl rfl)
theorem dX9_openAll_85 : decode cX9_openAll 85 = .ok (.ifCond .ne 20, 3) := dk_154 0 20 (dk_at dksX9_openAll_3 16 rfl rfl)
theorem dX9_openAll_88 : decode cX9_openAll 88 = .ok (.aload_n 0, 1) := dk_42 (dk_at dksX9_openAll_3 19 rfl rfl)
theorem dX9_openAll_89 : decode cX9_openAll 89 = .ok (.getfield 9, 3) := dk_180 0 9 (dk_at dksX9_openAll_3 20 rfl rfl)
theorem dX9_openAll_92 : decode cX9_openAll 92 = .ok (.iconst 4, 1) := dk_7 (dk_at dksX9_openAll_3 23 rfl rfl)
theorem dX9_openAll_93 : decode cX9_openAll 93 = .ok (.iaload, 1) := dk_46 (dk_at dksX9_openAll_4 0 rfl rfl)
theorem dX9_openAll_94 : decode cX9_openAll 94 = .ok (.ifCond .ne 11, 3) := dk_154 0 11 (dk_at dksX9_openAll_4 1 rfl rfl)
theorem dX9_openAll_97 : decode cX9_openAll 97 = .ok (.aload_n 0, 1) := dk_42 (dk_at dksX9_openAll_4 4 rfl rfl)
theorem dX9_openAll_98 : decode cX9_openAll 98 = .ok (.iload 5, 2) := dk_21 5 (dk_at dksX9_openAll_4 5 rfl rfl)
theorem dX9_openAll_100 : decode cX9_openAll 100 = .ok (.iconst 5, 1) := dk_8 (dk_at dksX9_openAll_4 7 rfl rfl)
theorem dX9_openAll_101 : decode cX9_openAll 101 = .ok (.iconst (-1), 1) := dk_2 (dk_at dksX9_openAll_4 8 rfl rfl)
theorem dX9_openAll_102 : decode cX9_openAll 102 = .ok (.invokevirtual 98, 3) := dk_182 0 98 (dk_at dksX9_openAll_4 9 rfl rfl)
theorem dX9_openAll_105 : decode cX9_openAll 105 = .ok (.iinc 4 1, 3) := dk_132 4 1 (dk_at dksX9_openAll_4 12 rfl rfl)
theorem dX9_openAll_108 : decode cX9_openAll 108 = .ok (.goto (-92), 3) := dk_167 255 164 (dk_at dksX9_openAll_4 15 rfl rfl)
theorem dX9_openAll_111 : decode cX9_openAll 111 = .ok (.iload_n 2, 1) := dk_28 (dk_at dksX9_openAll_4 18 rfl rfl)
theorem dX9_openAll_112 : decode cX9_openAll 112 = .ok (.ireturn, 1) := dk_172 (dk_at dksX9_openAll_4 19 rfl rfl)
abbrev cX9_hits : ByteArray := prog_15_method_30_code
def yX9_hits : MethodName := ⟨RX9, "hits", "()I"⟩
def dkwX9_hits_2 : List UInt8 := [27, 172]
abbrev dktX9_hits_2 : List UInt8 := dkwX9_hits_2 ++ []
def dkwX9_hits_1 : List UInt8 := [182, 0, 120, 182, 0, 164, 153, 0, 9, 4, 29, 120, 167, 0, 4, 3, 128, 60, 132, 3, 1, 167, 255, 225]
abbrev dktX9_hits_1 : List UInt8 := dkwX9_hits_1 ++ dktX9_hits_2
def dkwX9_hits_0 : List UInt8 := [42, 182, 0, 149, 3, 60, 42, 7, 182, 0, 161, 61, 3, 62, 29, 28, 162, 0, 32, 27, 42, 42, 29, 7]
abbrev dktX9_hits_0 : List UInt8 := dkwX9_hits_0 ++ dktX9_hits_1
theorem dksX9_hits_0 : cX9_hits.data.toList.drop 0 = dktX9_hits_0 := by decide +kernel
theorem dksX9_hits_1 : cX9_hits.data.toList.drop 24 = dktX9_hits_1 := dk_seg dksX9_hits_0 24 rfl rfl
theorem dksX9_hits_2 : cX9_hits.data.toList.drop 48 = dktX9_hits_2 := dk_seg dksX9_hits_1 24 rfl rfl
theorem dX9_hits_0 : decode cX9_hits 0 = .ok (.aload_n 0, 1) := dk_42 (dk_at dksX9_hits_0 0 rfl rfl)
theorem dX9_hits_1 : decode cX9_hits 1 = .ok (.invokevirtual 149, 3) := dk_182 0 149 (dk_at dksX9_hits_0 1 rfl rfl)
theorem dX9_hits_4 : decode cX9_hits 4 = .ok (.iconst 0, 1) := dk_3 (dk_at dksX9_hits_0 4 rfl rfl)
theorem dX9_hits_5 : decode cX9_hits 5 = .ok (.istore_n 1, 1) := dk_60 (dk_at dksX9_hits_0 5 rfl rfl)
theorem dX9_hits_6 : decode cX9_hits 6 = .ok (.aload_n 0, 1) := dk_42 (dk_at dksX9_hits_0 6 rfl rfl)
theorem dX9_hits_7 : decode cX9_hits 7 = .ok (.iconst 4, 1) := dk_7 (dk_at dksX9_hits_0 7 rfl rfl)
theorem dX9_hits_8 : decode cX9_hits 8 = .ok (.invokevirtual 161, 3) := dk_182 0 161 (dk_at dksX9_hits_0 8 rfl rfl)
theorem dX9_hits_11 : decode cX9_hits 11 = .ok (.istore_n 2, 1) := dk_61 (dk_at dksX9_hits_0 11 rfl rfl)
theorem dX9_hits_12 : decode cX9_hits 12 = .ok (.iconst 0, 1) := dk_3 (dk_at dksX9_hits_0 12 rfl rfl)
theorem dX9_hits_13 : decode cX9_hits 13 = .ok (.istore_n 3, 1) := dk_62 (dk_at dksX9_hits_0 13 rfl rfl)
theorem dX9_hits_14 : decode cX9_hits 14 = .ok (.iload_n 3, 1) := dk_29 (dk_at dksX9_hits_0 14 rfl rfl)
theorem dX9_hits_15 : decode cX9_hits 15 = .ok (.iload_n 2, 1) := dk_28 (dk_at dksX9_hits_0 15 rfl rfl)
theorem dX9_hits_16 : decode cX9_hits 16 = .ok (.if_icmp .ge 32, 3) := dk_162 0 32 (dk_at dksX9_hits_0 16 rfl rfl)
theorem dX9_hits_19 : decode cX9_hits 19 = .ok (.iload_n 1, 1) := dk_27 (dk_at dksX9_hits_0 19 rfl rfl)
theorem dX9_hits_20 : decode cX9_hits 20 = .ok (.aload_n 0, 1) := dk_42 (dk_at dksX9_hits_0 20 rfl rfl)
theorem dX9_hits_21 : decode cX9_hits 21 = .ok (.aload_n 0, 1) := dk_42 (dk_at dksX9_hits_0 21 rfl rfl)
theorem dX9_hits_22 : decode cX9_hits 22 = .ok (.iload_n 3, 1) := dk_29 (dk_at dksX9_hits_0 22 rfl rfl)
theorem dX9_hits_23 : decode cX9_hits 23 = .ok (.iconst 4, 1) := dk_7 (dk_at dksX9_hits_0 23 rfl rfl)
theorem dX9_hits_24 : decode cX9_hits 24 = .ok (.invokevirtual 120, 3) := dk_182 0 120 (dk_at dksX9_hits_1 0 rfl rfl)
theorem dX9_hits_27 : decode cX9_hits 27 = .ok (.invokevirtual 164, 3) := dk_182 0 164 (dk_at dksX9_hits_1 3 rfl rfl)
theorem dX9_hits_30 : decode cX9_hits 30 = .ok (.ifCond .eq 9, 3) := dk_153 0 9 (dk_at dksX9_hits_1 6 rfl rfl)
theorem dX9_hits_33 : decode cX9_hits 33 = .ok (.iconst 1, 1) := dk_4 (dk_at dksX9_hits_1 9 rfl rfl)
theorem dX9_hits_34 : decode cX9_hits 34 = .ok (.iload_n 3, 1) := dk_29 (dk_at dksX9_hits_1 10 rfl rfl)
theorem dX9_hits_35 : decode cX9_hits 35 = .ok (.ishl, 1) := dk_120 (dk_at dksX9_hits_1 11 rfl rfl)
theorem dX9_hits_36 : decode cX9_hits 36 = .ok (.goto 4, 3) := dk_167 0 4 (dk_at dksX9_hits_1 12 rfl rfl)
theorem dX9_hits_39 : decode cX9_hits 39 = .ok (.iconst 0, 1) := dk_3 (dk_at dksX9_hits_1 15 rfl rfl)
theorem dX9_hits_40 : decode cX9_hits 40 = .ok (.ior, 1) := dk_128 (dk_at dksX9_hits_1 16 rfl rfl)
theorem dX9_hits_41 : decode cX9_hits 41 = .ok (.istore_n 1, 1) := dk_60 (dk_at dksX9_hits_1 17 rfl rfl)
theorem dX9_hits_42 : decode cX9_hits 42 = .ok (.iinc 3 1, 3) := dk_132 3 1 (dk_at dksX9_hits_1 18 rfl rfl)
theorem dX9_hits_45 : decode cX9_hits 45 = .ok (.goto (-31), 3) := dk_167 255 225 (dk_at dksX9_hits_1 21 rfl rfl)
theorem dX9_hits_48 : decode cX9_hits 48 = .ok (.iload_n 1, 1) := dk_27 (dk_at dksX9_hits_2 0 rfl rfl)
theorem dX9_hits_49 : decode cX9_hits 49 = .ok (.ireturn, 1) := dk_172 (dk_at dksX9_hits_2 1 rfl rfl)
abbrev cX9_shine : ByteArray := prog_15_method_24_code
def yX9_shine : MethodName := ⟨RX9, "shine", "()V"⟩
def dkwX9_shine_2 : List UInt8 := [180, 0, 50, 28, 4, 84, 42, 28, 42, 180, 0, 50, 182, 0, 146, 177]
abbrev dktX9_shine_2 : List UInt8 := dkwX9_shine_2 ++ []
def dkwX9_shine_1 : List UInt8 := [182, 0, 143, 60, 42, 27, 42, 27, 4, 182, 0, 106, 182, 0, 126, 61, 28, 2, 159, 0, 19, 42]
abbrev dktX9_shine_1 : List UInt8 := dkwX9_shine_1 ++ dktX9_shine_2
def dkwX9_shine_0 : List UInt8 := [3, 60, 27, 17, 1, 144, 162, 0, 16, 42, 180, 0, 50, 27, 3, 84, 132, 1, 1, 167, 255, 239, 42]
abbrev dktX9_shine_0 : List UInt8 := dkwX9_shine_0 ++ dktX9_shine_1
theorem dksX9_shine_0 : cX9_shine.data.toList.drop 0 = dktX9_shine_0 := by decide +kernel
theorem dksX9_shine_1 : cX9_shine.data.toList.drop 23 = dktX9_shine_1 := dk_seg dksX9_shine_0 23 rfl rfl
theorem dksX9_shine_2 : cX9_shine.data.toList.drop 45 = dktX9_shine_2 := dk_seg dksX9_shine_1 22 rfl rfl
theorem dX9_shine_0 : decode cX9_shine 0 = .ok (.iconst 0, 1) := dk_3 (dk_at dksX9_shine_0 0 rfl rfl)
theorem dX9_shine_1 : decode cX9_shine 1 = .ok (.istore_n 1, 1) := dk_60 (dk_at dksX9_shine_0 1 rfl rfl)
theorem dX9_shine_2 : decode cX9_shine 2 = .ok (.iload_n 1, 1) := dk_27 (dk_at dksX9_shine_0 2 rfl rfl)
theorem dX9_shine_3 : decode cX9_shine 3 = .ok (.sipush 400, 3) := dk_17 1 144 (dk_at dksX9_shine_0 3 rfl rfl)
theorem dX9_shine_6 : decode cX9_shine 6 = .ok (.if_icmp .ge 16, 3) := dk_162 0 16 (dk_at dksX9_shine_0 6 rfl rfl)
theorem dX9_shine_9 : decode cX9_shine 9 = .ok (.aload_n 0, 1) := dk_42 (dk_at dksX9_shine_0 9 rfl rfl)
theorem dX9_shine_10 : decode cX9_shine 10 = .ok (.getfield 50, 3) := dk_180 0 50 (dk_at dksX9_shine_0 10 rfl rfl)
theorem dX9_shine_13 : decode cX9_shine 13 = .ok (.iload_n 1, 1) := dk_27 (dk_at dksX9_shine_0 13 rfl rfl)
theorem dX9_shine_14 : decode cX9_shine 14 = .ok (.iconst 0, 1) := dk_3 (dk_at dksX9_shine_0 14 rfl rfl)
theorem dX9_shine_15 : decode cX9_shine 15 = .ok (.bastore, 1) := dk_84 (dk_at dksX9_shine_0 15 rfl rfl)
theorem dX9_shine_16 : decode cX9_shine 16 = .ok (.iinc 1 1, 3) := dk_132 1 1 (dk_at dksX9_shine_0 16 rfl rfl)
theorem dX9_shine_19 : decode cX9_shine 19 = .ok (.goto (-17), 3) := dk_167 255 239 (dk_at dksX9_shine_0 19 rfl rfl)
theorem dX9_shine_22 : decode cX9_shine 22 = .ok (.aload_n 0, 1) := dk_42 (dk_at dksX9_shine_0 22 rfl rfl)
theorem dX9_shine_23 : decode cX9_shine 23 = .ok (.invokevirtual 143, 3) := dk_182 0 143 (dk_at dksX9_shine_1 0 rfl rfl)
theorem dX9_shine_26 : decode cX9_shine 26 = .ok (.istore_n 1, 1) := dk_60 (dk_at dksX9_shine_1 3 rfl rfl)
theorem dX9_shine_27 : decode cX9_shine 27 = .ok (.aload_n 0, 1) := dk_42 (dk_at dksX9_shine_1 4 rfl rfl)
theorem dX9_shine_28 : decode cX9_shine 28 = .ok (.iload_n 1, 1) := dk_27 (dk_at dksX9_shine_1 5 rfl rfl)
theorem dX9_shine_29 : decode cX9_shine 29 = .ok (.aload_n 0, 1) := dk_42 (dk_at dksX9_shine_1 6 rfl rfl)
theorem dX9_shine_30 : decode cX9_shine 30 = .ok (.iload_n 1, 1) := dk_27 (dk_at dksX9_shine_1 7 rfl rfl)
theorem dX9_shine_31 : decode cX9_shine 31 = .ok (.iconst 1, 1) := dk_4 (dk_at dksX9_shine_1 8 rfl rfl)
theorem dX9_shine_32 : decode cX9_shine 32 = .ok (.invokevirtual 106, 3) := dk_182 0 106 (dk_at dksX9_shine_1 9 rfl rfl)
theorem dX9_shine_35 : decode cX9_shine 35 = .ok (.invokevirtual 126, 3) := dk_182 0 126 (dk_at dksX9_shine_1 12 rfl rfl)
theorem dX9_shine_38 : decode cX9_shine 38 = .ok (.istore_n 2, 1) := dk_61 (dk_at dksX9_shine_1 15 rfl rfl)
theorem dX9_shine_39 : decode cX9_shine 39 = .ok (.iload_n 2, 1) := dk_28 (dk_at dksX9_shine_1 16 rfl rfl)
theorem dX9_shine_40 : decode cX9_shine 40 = .ok (.iconst (-1), 1) := dk_2 (dk_at dksX9_shine_1 17 rfl rfl)
theorem dX9_shine_41 : decode cX9_shine 41 = .ok (.if_icmp .eq 19, 3) := dk_159 0 19 (dk_at dksX9_shine_1 18 rfl rfl)
theorem dX9_shine_44 : decode cX9_shine 44 = .ok (.aload_n 0, 1) := dk_42 (dk_at dksX9_shine_1 21 rfl rfl)
theorem dX9_shine_45 : decode cX9_shine 45 = .ok (.getfield 50, 3) := dk_180 0 50 (dk_at dksX9_shine_2 0 rfl rfl)
theorem dX9_shine_48 : decode cX9_shine 48 = .ok (.iload_n 2, 1) := dk_28 (dk_at dksX9_shine_2 3 rfl rfl)
theorem dX9_shine_49 : decode cX9_shine 49 = .ok (.iconst 1, 1) := dk_4 (dk_at dksX9_shine_2 4 rfl rfl)
theorem dX9_shine_50 : decode cX9_shine 50 = .ok (.bastore, 1) := dk_84 (dk_at dksX9_shine_2 5 rfl rfl)
theorem dX9_shine_51 : decode cX9_shine 51 = .ok (.aload_n 0, 1) := dk_42 (dk_at dksX9_shine_2 6 rfl rfl)
theorem dX9_shine_52 : decode cX9_shine 52 = .ok (.iload_n 2, 1) := dk_28 (dk_at dksX9_shine_2 7 rfl rfl)
theorem dX9_shine_53 : decode cX9_shine 53 = .ok (.aload_n 0, 1) := dk_42 (dk_at dksX9_shine_2 8 rfl rfl)
theorem dX9_shine_54 : decode cX9_shine 54 = .ok (.getfield 50, 3) := dk_180 0 50 (dk_at dksX9_shine_2 9 rfl rfl)
theorem dX9_shine_57 : decode cX9_shine 57 = .ok (.invokevirtual 146, 3) := dk_182 0 146 (dk_at dksX9_shine_2 12 rfl rfl)
theorem dX9_shine_60 : decode cX9_shine 60 = .ok (.return_, 1) := dk_177 (dk_at dksX9_shine_2 15 rfl rfl)
abbrev cX9_lamp : ByteArray := prog_15_method_18_code
def yX9_lamp : MethodName := ⟨RX9, "lamp", "()I"⟩
def dkwX9_lamp_0 : List UInt8 := [42, 3, 16, 7, 182, 0, 120, 172]
abbrev dktX9_lamp_0 : List UInt8 := dkwX9_lamp_0 ++ []
theorem dksX9_lamp_0 : cX9_lamp.data.toList.drop 0 = dktX9_lamp_0 := by decide +kernel
theorem dX9_lamp_0 : decode cX9_lamp 0 = .ok (.aload_n 0, 1) := dk_42 (dk_at dksX9_lamp_0 0 rfl rfl)
theorem dX9_lamp_1 : decode cX9_lamp 1 = .ok (.iconst 0, 1) := dk_3 (dk_at dksX9_lamp_0 1 rfl rfl)
theorem dX9_lamp_2 : decode cX9_lamp 2 = .ok (.bipush 7, 2) := dk_16 7 (dk_at dksX9_lamp_0 2 rfl rfl)
theorem dX9_lamp_4 : decode cX9_lamp 4 = .ok (.invokevirtual 120, 3) := dk_182 0 120 (dk_at dksX9_lamp_0 4 rfl rfl)
theorem dX9_lamp_7 : decode cX9_lamp 7 = .ok (.ireturn, 1) := dk_172 (dk_at dksX9_lamp_0 7 rfl rfl)
abbrev cX9_cellOf : ByteArray := prog_15_method_16_code
def yX9_cellOf : MethodName := ⟨RX9, "cellOf", "(II)I"⟩
def dkwX9_cellOf_1 : List UInt8 := [153, 0, 13, 29, 154, 0, 6, 21, 4, 172, 132, 3, 255, 132, 4, 1, 167, 255, 222, 2, 172]
abbrev dktX9_cellOf_1 : List UInt8 := dkwX9_cellOf_1 ++ []
def dkwX9_cellOf_0 : List UInt8 := [27, 62, 3, 54, 4, 21, 4, 16, 100, 162, 0, 33, 29, 155, 0, 29, 42, 21, 4, 28, 182, 0, 116]
abbrev dktX9_cellOf_0 : List UInt8 := dkwX9_cellOf_0 ++ dktX9_cellOf_1
theorem dksX9_cellOf_0 : cX9_cellOf.data.toList.drop 0 = dktX9_cellOf_0 := by decide +kernel
theorem dksX9_cellOf_1 : cX9_cellOf.data.toList.drop 23 = dktX9_cellOf_1 := dk_seg dksX9_cellOf_0 23 rfl rfl
theorem dX9_cellOf_0 : decode cX9_cellOf 0 = .ok (.iload_n 1, 1) := dk_27 (dk_at dksX9_cellOf_0 0 rfl rfl)
theorem dX9_cellOf_1 : decode cX9_cellOf 1 = .ok (.istore_n 3, 1) := dk_62 (dk_at dksX9_cellOf_0 1 rfl rfl)
theorem dX9_cellOf_2 : decode cX9_cellOf 2 = .ok (.iconst 0, 1) := dk_3 (dk_at dksX9_cellOf_0 2 rfl rfl)
theorem dX9_cellOf_3 : decode cX9_cellOf 3 = .ok (.istore 4, 2) := dk_54 4 (dk_at dksX9_cellOf_0 3 rfl rfl)
theorem dX9_cellOf_5 : decode cX9_cellOf 5 = .ok (.iload 4, 2) := dk_21 4 (dk_at dksX9_cellOf_0 5 rfl rfl)
theorem dX9_cellOf_7 : decode cX9_cellOf 7 = .ok (.bipush 100, 2) := dk_16 100 (dk_at dksX9_cellOf_0 7 rfl rfl)
theorem dX9_cellOf_9 : decode cX9_cellOf 9 = .ok (.if_icmp .ge 33, 3) := dk_162 0 33 (dk_at dksX9_cellOf_0 9 rfl rfl)
theorem dX9_cellOf_12 : decode cX9_cellOf 12 = .ok (.iload_n 3, 1) := dk_29 (dk_at dksX9_cellOf_0 12 rfl rfl)
theorem dX9_cellOf_13 : decode cX9_cellOf 13 = .ok (.ifCond .lt 29, 3) := dk_155 0 29 (dk_at dksX9_cellOf_0 13 rfl rfl)
theorem dX9_cellOf_16 : decode cX9_cellOf 16 = .ok (.aload_n 0, 1) := dk_42 (dk_at dksX9_cellOf_0 16 rfl rfl)
theorem dX9_cellOf_17 : decode cX9_cellOf 17 = .ok (.iload 4, 2) := dk_21 4 (dk_at dksX9_cellOf_0 17 rfl rfl)
theorem dX9_cellOf_19 : decode cX9_cellOf 19 = .ok (.iload_n 2, 1) := dk_28 (dk_at dksX9_cellOf_0 19 rfl rfl)
theorem dX9_cellOf_20 : decode cX9_cellOf 20 = .ok (.invokevirtual 116, 3) := dk_182 0 116 (dk_at dksX9_cellOf_0 20 rfl rfl)
theorem dX9_cellOf_23 : decode cX9_cellOf 23 = .ok (.ifCond .eq 13, 3) := dk_153 0 13 (dk_at dksX9_cellOf_1 0 rfl rfl)
theorem dX9_cellOf_26 : decode cX9_cellOf 26 = .ok (.iload_n 3, 1) := dk_29 (dk_at dksX9_cellOf_1 3 rfl rfl)
theorem dX9_cellOf_27 : decode cX9_cellOf 27 = .ok (.ifCond .ne 6, 3) := dk_154 0 6 (dk_at dksX9_cellOf_1 4 rfl rfl)
theorem dX9_cellOf_30 : decode cX9_cellOf 30 = .ok (.iload 4, 2) := dk_21 4 (dk_at dksX9_cellOf_1 7 rfl rfl)
theorem dX9_cellOf_32 : decode cX9_cellOf 32 = .ok (.ireturn, 1) := dk_172 (dk_at dksX9_cellOf_1 9 rfl rfl)
theorem dX9_cellOf_33 : decode cX9_cellOf 33 = .ok (.iinc 3 (-1), 3) := dk_132 3 255 (dk_at dksX9_cellOf_1 10 rfl rfl)
theorem dX9_cellOf_36 : decode cX9_cellOf 36 = .ok (.iinc 4 1, 3) := dk_132 4 1 (dk_at dksX9_cellOf_1 13 rfl rfl)
theorem dX9_cellOf_39 : decode cX9_cellOf 39 = .ok (.goto (-34), 3) := dk_167 255 222 (dk_at dksX9_cellOf_1 16 rfl rfl)
theorem dX9_cellOf_42 : decode cX9_cellOf 42 = .ok (.iconst (-1), 1) := dk_2 (dk_at dksX9_cellOf_1 19 rfl rfl)
theorem dX9_cellOf_43 : decode cX9_cellOf 43 = .ok (.ireturn, 1) := dk_172 (dk_at dksX9_cellOf_1 20 rfl rfl)
abbrev cX9_isOf : ByteArray := prog_15_method_15_code
def yX9_isOf : MethodName := ⟨RX9, "isOf", "(II)Z"⟩
def dkwX9_isOf_1 : List UInt8 := [42, 27, 3, 182, 0, 106, 28, 160, 0, 7, 4, 167, 0, 4, 3, 172]
abbrev dktX9_isOf_1 : List UInt8 := dkwX9_isOf_1 ++ []
def dkwX9_isOf_0 : List UInt8 := [42, 27, 182, 0, 113, 153, 0, 33, 28, 5, 160, 0, 14, 42, 27, 182, 0, 109, 153, 0, 20, 167, 0, 13]
abbrev dktX9_isOf_0 : List UInt8 := dkwX9_isOf_0 ++ dktX9_isOf_1
theorem dksX9_isOf_0 : cX9_isOf.data.toList.drop 0 = dktX9_isOf_0 := by decide +kernel
theorem dksX9_isOf_1 : cX9_isOf.data.toList.drop 24 = dktX9_isOf_1 := dk_seg dksX9_isOf_0 24 rfl rfl
theorem dX9_isOf_0 : decode cX9_isOf 0 = .ok (.aload_n 0, 1) := dk_42 (dk_at dksX9_isOf_0 0 rfl rfl)
theorem dX9_isOf_1 : decode cX9_isOf 1 = .ok (.iload_n 1, 1) := dk_27 (dk_at dksX9_isOf_0 1 rfl rfl)
theorem dX9_isOf_2 : decode cX9_isOf 2 = .ok (.invokevirtual 113, 3) := dk_182 0 113 (dk_at dksX9_isOf_0 2 rfl rfl)
theorem dX9_isOf_5 : decode cX9_isOf 5 = .ok (.ifCond .eq 33, 3) := dk_153 0 33 (dk_at dksX9_isOf_0 5 rfl rfl)
theorem dX9_isOf_8 : decode cX9_isOf 8 = .ok (.iload_n 2, 1) := dk_28 (dk_at dksX9_isOf_0 8 rfl rfl)
theorem dX9_isOf_9 : decode cX9_isOf 9 = .ok (.iconst 2, 1) := dk_5 (dk_at dksX9_isOf_0 9 rfl rfl)
theorem dX9_isOf_10 : decode cX9_isOf 10 = .ok (.if_icmp .ne 14, 3) := dk_160 0 14 (dk_at dksX9_isOf_0 10 rfl rfl)
theorem dX9_isOf_13 : decode cX9_isOf 13 = .ok (.aload_n 0, 1) := dk_42 (dk_at dksX9_isOf_0 13 rfl rfl)
theorem dX9_isOf_14 : decode cX9_isOf 14 = .ok (.iload_n 1, 1) := dk_27 (dk_at dksX9_isOf_0 14 rfl rfl)
theorem dX9_isOf_15 : decode cX9_isOf 15 = .ok (.invokevirtual 109, 3) := dk_182 0 109 (dk_at dksX9_isOf_0 15 rfl rfl)
theorem dX9_isOf_18 : decode cX9_isOf 18 = .ok (.ifCond .eq 20, 3) := dk_153 0 20 (dk_at dksX9_isOf_0 18 rfl rfl)
theorem dX9_isOf_21 : decode cX9_isOf 21 = .ok (.goto 13, 3) := dk_167 0 13 (dk_at dksX9_isOf_0 21 rfl rfl)
theorem dX9_isOf_24 : decode cX9_isOf 24 = .ok (.aload_n 0, 1) := dk_42 (dk_at dksX9_isOf_1 0 rfl rfl)
theorem dX9_isOf_25 : decode cX9_isOf 25 = .ok (.iload_n 1, 1) := dk_27 (dk_at dksX9_isOf_1 1 rfl rfl)
theorem dX9_isOf_26 : decode cX9_isOf 26 = .ok (.iconst 0, 1) := dk_3 (dk_at dksX9_isOf_1 2 rfl rfl)
theorem dX9_isOf_27 : decode cX9_isOf 27 = .ok (.invokevirtual 106, 3) := dk_182 0 106 (dk_at dksX9_isOf_1 3 rfl rfl)
theorem dX9_isOf_30 : decode cX9_isOf 30 = .ok (.iload_n 2, 1) := dk_28 (dk_at dksX9_isOf_1 6 rfl rfl)
theorem dX9_isOf_31 : decode cX9_isOf 31 = .ok (.if_icmp .ne 7, 3) := dk_160 0 7 (dk_at dksX9_isOf_1 7 rfl rfl)
theorem dX9_isOf_34 : decode cX9_isOf 34 = .ok (.iconst 1, 1) := dk_4 (dk_at dksX9_isOf_1 10 rfl rfl)
theorem dX9_isOf_35 : decode cX9_isOf 35 = .ok (.goto 4, 3) := dk_167 0 4 (dk_at dksX9_isOf_1 11 rfl rfl)
theorem dX9_isOf_38 : decode cX9_isOf 38 = .ok (.iconst 0, 1) := dk_3 (dk_at dksX9_isOf_1 14 rfl rfl)
theorem dX9_isOf_39 : decode cX9_isOf 39 = .ok (.ireturn, 1) := dk_172 (dk_at dksX9_isOf_1 15 rfl rfl)
abbrev cX9_isCell : ByteArray := prog_15_method_10_code
def yX9_isCell : MethodName := ⟨RX9, "isCell", "(I)Z"⟩
def dkwX9_isCell_1 : List UInt8 := [162, 0, 7, 4, 167, 0, 4, 3, 172]
abbrev dktX9_isCell_1 : List UInt8 := dkwX9_isCell_1 ++ []
def dkwX9_isCell_0 : List UInt8 := [27, 16, 10, 112, 42, 180, 0, 9, 3, 46, 162, 0, 20, 27, 16, 10, 108, 42, 180, 0, 9, 4, 46]
abbrev dktX9_isCell_0 : List UInt8 := dkwX9_isCell_0 ++ dktX9_isCell_1
theorem dksX9_isCell_0 : cX9_isCell.data.toList.drop 0 = dktX9_isCell_0 := by decide +kernel
theorem dksX9_isCell_1 : cX9_isCell.data.toList.drop 23 = dktX9_isCell_1 := dk_seg dksX9_isCell_0 23 rfl rfl
theorem dX9_isCell_0 : decode cX9_isCell 0 = .ok (.iload_n 1, 1) := dk_27 (dk_at dksX9_isCell_0 0 rfl rfl)
theorem dX9_isCell_1 : decode cX9_isCell 1 = .ok (.bipush 10, 2) := dk_16 10 (dk_at dksX9_isCell_0 1 rfl rfl)
theorem dX9_isCell_3 : decode cX9_isCell 3 = .ok (.irem, 1) := dk_112 (dk_at dksX9_isCell_0 3 rfl rfl)
theorem dX9_isCell_4 : decode cX9_isCell 4 = .ok (.aload_n 0, 1) := dk_42 (dk_at dksX9_isCell_0 4 rfl rfl)
theorem dX9_isCell_5 : decode cX9_isCell 5 = .ok (.getfield 9, 3) := dk_180 0 9 (dk_at dksX9_isCell_0 5 rfl rfl)
theorem dX9_isCell_8 : decode cX9_isCell 8 = .ok (.iconst 0, 1) := dk_3 (dk_at dksX9_isCell_0 8 rfl rfl)
theorem dX9_isCell_9 : decode cX9_isCell 9 = .ok (.iaload, 1) := dk_46 (dk_at dksX9_isCell_0 9 rfl rfl)
theorem dX9_isCell_10 : decode cX9_isCell 10 = .ok (.if_icmp .ge 20, 3) := dk_162 0 20 (dk_at dksX9_isCell_0 10 rfl rfl)
theorem dX9_isCell_13 : decode cX9_isCell 13 = .ok (.iload_n 1, 1) := dk_27 (dk_at dksX9_isCell_0 13 rfl rfl)
theorem dX9_isCell_14 : decode cX9_isCell 14 = .ok (.bipush 10, 2) := dk_16 10 (dk_at dksX9_isCell_0 14 rfl rfl)
theorem dX9_isCell_16 : decode cX9_isCell 16 = .ok (.idiv, 1) := dk_108 (dk_at dksX9_isCell_0 16 rfl rfl)
theorem dX9_isCell_17 : decode cX9_isCell 17 = .ok (.aload_n 0, 1) := dk_42 (dk_at dksX9_isCell_0 17 rfl rfl)
theorem dX9_isCell_18 : decode cX9_isCell 18 = .ok (.getfield 9, 3) := dk_180 0 9 (dk_at dksX9_isCell_0 18 rfl rfl)
theorem dX9_isCell_21 : decode cX9_isCell 21 = .ok (.iconst 1, 1) := dk_4 (dk_at dksX9_isCell_0 21 rfl rfl)
theorem dX9_isCell_22 : decode cX9_isCell 22 = .ok (.iaload, 1) := dk_46 (dk_at dksX9_isCell_0 22 rfl rfl)
theorem dX9_isCell_23 : decode cX9_isCell 23 = .ok (.if_icmp .ge 7, 3) := dk_162 0 7 (dk_at dksX9_isCell_1 0 rfl rfl)
theorem dX9_isCell_26 : decode cX9_isCell 26 = .ok (.iconst 1, 1) := dk_4 (dk_at dksX9_isCell_1 3 rfl rfl)
theorem dX9_isCell_27 : decode cX9_isCell 27 = .ok (.goto 4, 3) := dk_167 0 4 (dk_at dksX9_isCell_1 4 rfl rfl)
theorem dX9_isCell_30 : decode cX9_isCell 30 = .ok (.iconst 0, 1) := dk_3 (dk_at dksX9_isCell_1 7 rfl rfl)
theorem dX9_isCell_31 : decode cX9_isCell 31 = .ok (.ireturn, 1) := dk_172 (dk_at dksX9_isCell_1 8 rfl rfl)
abbrev cX9_isMirror : ByteArray := prog_15_method_13_code
def yX9_isMirror : MethodName := ⟨RX9, "isMirror", "(I)Z"⟩
def dkwX9_isMirror_1 : List UInt8 := [3, 172]
abbrev dktX9_isMirror_1 : List UInt8 := dkwX9_isMirror_1 ++ []
def dkwX9_isMirror_0 : List UInt8 := [42, 27, 3, 182, 0, 106, 5, 159, 0, 13, 42, 27, 3, 182, 0, 106, 6, 160, 0, 7, 4, 167, 0, 4]
abbrev dktX9_isMirror_0 : List UInt8 := dkwX9_isMirror_0 ++ dktX9_isMirror_1
theorem dksX9_isMirror_0 : cX9_isMirror.data.toList.drop 0 = dktX9_isMirror_0 := by decide +kernel
theorem dksX9_isMirror_1 : cX9_isMirror.data.toList.drop 24 = dktX9_isMirror_1 := dk_seg dksX9_isMirror_0 24 rfl rfl
theorem dX9_isMirror_0 : decode cX9_isMirror 0 = .ok (.aload_n 0, 1) := dk_42 (dk_at dksX9_isMirror_0 0 rfl rfl)
theorem dX9_isMirror_1 : decode cX9_isMirror 1 = .ok (.iload_n 1, 1) := dk_27 (dk_at dksX9_isMirror_0 1 rfl rfl)
theorem dX9_isMirror_2 : decode cX9_isMirror 2 = .ok (.iconst 0, 1) := dk_3 (dk_at dksX9_isMirror_0 2 rfl rfl)
theorem dX9_isMirror_3 : decode cX9_isMirror 3 = .ok (.invokevirtual 106, 3) := dk_182 0 106 (dk_at dksX9_isMirror_0 3 rfl rfl)
theorem dX9_isMirror_6 : decode cX9_isMirror 6 = .ok (.iconst 2, 1) := dk_5 (dk_at dksX9_isMirror_0 6 rfl rfl)
theorem dX9_isMirror_7 : decode cX9_isMirror 7 = .ok (.if_icmp .eq 13, 3) := dk_159 0 13 (dk_at dksX9_isMirror_0 7 rfl rfl)
theorem dX9_isMirror_10 : decode cX9_isMirror 10 = .ok (.aload_n 0, 1) := dk_42 (dk_at dksX9_isMirror_0 10 rfl rfl)
theorem dX9_isMirror_11 : decode cX9_isMirror 11 = .ok (.iload_n 1, 1) := dk_27 (dk_at dksX9_isMirror_0 11 rfl rfl)
theorem dX9_isMirror_12 : decode cX9_isMirror 12 = .ok (.iconst 0, 1) := dk_3 (dk_at dksX9_isMirror_0 12 rfl rfl)
theorem dX9_isMirror_13 : decode cX9_isMirror 13 = .ok (.invokevirtual 106, 3) := dk_182 0 106 (dk_at dksX9_isMirror_0 13 rfl rfl)
theorem dX9_isMirror_16 : decode cX9_isMirror 16 = .ok (.iconst 3, 1) := dk_6 (dk_at dksX9_isMirror_0 16 rfl rfl)
theorem dX9_isMirror_17 : decode cX9_isMirror 17 = .ok (.if_icmp .ne 7, 3) := dk_160 0 7 (dk_at dksX9_isMirror_0 17 rfl rfl)
theorem dX9_isMirror_20 : decode cX9_isMirror 20 = .ok (.iconst 1, 1) := dk_4 (dk_at dksX9_isMirror_0 20 rfl rfl)
theorem dX9_isMirror_21 : decode cX9_isMirror 21 = .ok (.goto 4, 3) := dk_167 0 4 (dk_at dksX9_isMirror_0 21 rfl rfl)
theorem dX9_isMirror_24 : decode cX9_isMirror 24 = .ok (.iconst 0, 1) := dk_3 (dk_at dksX9_isMirror_1 0 rfl rfl)
theorem dX9_isMirror_25 : decode cX9_isMirror 25 = .ok (.ireturn, 1) := dk_172 (dk_at dksX9_isMirror_1 1 rfl rfl)
abbrev cX9_of : ByteArray := prog_15_method_6_code
def yX9_of : MethodName := ⟨RX9, "of", "(II)I"⟩
def dkwX9_of_0 : List UInt8 := [42, 180, 0, 9, 16, 6, 27, 16, 6, 104, 96, 28, 96, 46, 172]
abbrev dktX9_of_0 : List UInt8 := dkwX9_of_0 ++ []
theorem dksX9_of_0 : cX9_of.data.toList.drop 0 = dktX9_of_0 := by decide +kernel
theorem dX9_of_0 : decode cX9_of 0 = .ok (.aload_n 0, 1) := dk_42 (dk_at dksX9_of_0 0 rfl rfl)
theorem dX9_of_1 : decode cX9_of 1 = .ok (.getfield 9, 3) := dk_180 0 9 (dk_at dksX9_of_0 1 rfl rfl)
theorem dX9_of_4 : decode cX9_of 4 = .ok (.bipush 6, 2) := dk_16 6 (dk_at dksX9_of_0 4 rfl rfl)
theorem dX9_of_6 : decode cX9_of 6 = .ok (.iload_n 1, 1) := dk_27 (dk_at dksX9_of_0 6 rfl rfl)
theorem dX9_of_7 : decode cX9_of 7 = .ok (.bipush 6, 2) := dk_16 6 (dk_at dksX9_of_0 7 rfl rfl)
theorem dX9_of_9 : decode cX9_of 9 = .ok (.imul, 1) := dk_104 (dk_at dksX9_of_0 9 rfl rfl)
theorem dX9_of_10 : decode cX9_of 10 = .ok (.iadd, 1) := dk_96 (dk_at dksX9_of_0 10 rfl rfl)
theorem dX9_of_11 : decode cX9_of 11 = .ok (.iload_n 2, 1) := dk_28 (dk_at dksX9_of_0 11 rfl rfl)
theorem dX9_of_12 : decode cX9_of 12 = .ok (.iadd, 1) := dk_96 (dk_at dksX9_of_0 12 rfl rfl)
theorem dX9_of_13 : decode cX9_of 13 = .ok (.iaload, 1) := dk_46 (dk_at dksX9_of_0 13 rfl rfl)
theorem dX9_of_14 : decode cX9_of 14 = .ok (.ireturn, 1) := dk_172 (dk_at dksX9_of_0 14 rfl rfl)
abbrev cX9_beside : ByteArray := prog_15_method_19_code
def yX9_beside : MethodName := ⟨RX9, "beside", "(II)I"⟩
def dkwX9_beside_3 : List UInt8 := [167, 0, 4, 2, 172]
abbrev dktX9_beside_3 : List UInt8 := dkwX9_beside_3 ++ []
def dkwX9_beside_2 : List UInt8 := [54, 4, 42, 29, 21, 4, 182, 0, 123, 153, 0, 17, 7, 42, 29, 21, 4, 182, 0, 102, 104, 28, 96]
abbrev dktX9_beside_2 : List UInt8 := dkwX9_beside_2 ++ dktX9_beside_3
def dkwX9_beside_1 : List UInt8 := [62, 27, 16, 10, 108, 28, 5, 160, 0, 7, 4, 167, 0, 12, 28, 154, 0, 7, 2, 167, 0, 4, 3, 96]
abbrev dktX9_beside_1 : List UInt8 := dkwX9_beside_1 ++ dktX9_beside_2
def dkwX9_beside_0 : List UInt8 := [27, 16, 10, 112, 28, 4, 160, 0, 7, 4, 167, 0, 13, 28, 6, 160, 0, 7, 2, 167, 0, 4, 3, 96]
abbrev dktX9_beside_0 : List UInt8 := dkwX9_beside_0 ++ dktX9_beside_1
theorem dksX9_beside_0 : cX9_beside.data.toList.drop 0 = dktX9_beside_0 := by decide +kernel
theorem dksX9_beside_1 : cX9_beside.data.toList.drop 24 = dktX9_beside_1 := dk_seg dksX9_beside_0 24 rfl rfl
theorem dksX9_beside_2 : cX9_beside.data.toList.drop 48 = dktX9_beside_2 := dk_seg dksX9_beside_1 24 rfl rfl
theorem dksX9_beside_3 : cX9_beside.data.toList.drop 71 = dktX9_beside_3 := dk_seg dksX9_beside_2 23 rfl rfl
theorem dX9_beside_0 : decode cX9_beside 0 = .ok (.iload_n 1, 1) := dk_27 (dk_at dksX9_beside_0 0 rfl rfl)
theorem dX9_beside_1 : decode cX9_beside 1 = .ok (.bipush 10, 2) := dk_16 10 (dk_at dksX9_beside_0 1 rfl rfl)
theorem dX9_beside_3 : decode cX9_beside 3 = .ok (.irem, 1) := dk_112 (dk_at dksX9_beside_0 3 rfl rfl)
theorem dX9_beside_4 : decode cX9_beside 4 = .ok (.iload_n 2, 1) := dk_28 (dk_at dksX9_beside_0 4 rfl rfl)
theorem dX9_beside_5 : decode cX9_beside 5 = .ok (.iconst 1, 1) := dk_4 (dk_at dksX9_beside_0 5 rfl rfl)
theorem dX9_beside_6 : decode cX9_beside 6 = .ok (.if_icmp .ne 7, 3) := dk_160 0 7 (dk_at dksX9_beside_0 6 rfl rfl)
theorem dX9_beside_9 : decode cX9_beside 9 = .ok (.iconst 1, 1) := dk_4 (dk_at dksX9_beside_0 9 rfl rfl)
theorem dX9_beside_10 : decode cX9_beside 10 = .ok (.goto 13, 3) := dk_167 0 13 (dk_at dksX9_beside_0 10 rfl rfl)
theorem dX9_beside_13 : decode cX9_beside 13 = .ok (.iload_n 2, 1) := dk_28 (dk_at dksX9_beside_0 13 rfl rfl)
theorem dX9_beside_14 : decode cX9_beside 14 = .ok (.iconst 3, 1) := dk_6 (dk_at dksX9_beside_0 14 rfl rfl)
theorem dX9_beside_15 : decode cX9_beside 15 = .ok (.if_icmp .ne 7, 3) := dk_160 0 7 (dk_at dksX9_beside_0 15 rfl rfl)
theorem dX9_beside_18 : decode cX9_beside 18 = .ok (.iconst (-1), 1) := dk_2 (dk_at dksX9_beside_0 18 rfl rfl)
theorem dX9_beside_19 : decode cX9_beside 19 = .ok (.goto 4, 3) := dk_167 0 4 (dk_at dksX9_beside_0 19 rfl rfl)
theorem dX9_beside_22 : decode cX9_beside 22 = .ok (.iconst 0, 1) := dk_3 (dk_at dksX9_beside_0 22 rfl rfl)
theorem dX9_beside_23 : decode cX9_beside 23 = .ok (.iadd, 1) := dk_96 (dk_at dksX9_beside_0 23 rfl rfl)
theorem dX9_beside_24 : decode cX9_beside 24 = .ok (.istore_n 3, 1) := dk_62 (dk_at dksX9_beside_1 0 rfl rfl)
theorem dX9_beside_25 : decode cX9_beside 25 = .ok (.iload_n 1, 1) := dk_27 (dk_at dksX9_beside_1 1 rfl rfl)
theorem dX9_beside_26 : decode cX9_beside 26 = .ok (.bipush 10, 2) := dk_16 10 (dk_at dksX9_beside_1 2 rfl rfl)
theorem dX9_beside_28 : decode cX9_beside 28 = .ok (.idiv, 1) := dk_108 (dk_at dksX9_beside_1 4 rfl rfl)
theorem dX9_beside_29 : decode cX9_beside 29 = .ok (.iload_n 2, 1) := dk_28 (dk_at dksX9_beside_1 5 rfl rfl)
theorem dX9_beside_30 : decode cX9_beside 30 = .ok (.iconst 2, 1) := dk_5 (dk_at dksX9_beside_1 6 rfl rfl)
theorem dX9_beside_31 : decode cX9_beside 31 = .ok (.if_icmp .ne 7, 3) := dk_160 0 7 (dk_at dksX9_beside_1 7 rfl rfl)
theorem dX9_beside_34 : decode cX9_beside 34 = .ok (.iconst 1, 1) := dk_4 (dk_at dksX9_beside_1 10 rfl rfl)
theorem dX9_beside_35 : decode cX9_beside 35 = .ok (.goto 12, 3) := dk_167 0 12 (dk_at dksX9_beside_1 11 rfl rfl)
theorem dX9_beside_38 : decode cX9_beside 38 = .ok (.iload_n 2, 1) := dk_28 (dk_at dksX9_beside_1 14 rfl rfl)
theorem dX9_beside_39 : decode cX9_beside 39 = .ok (.ifCond .ne 7, 3) := dk_154 0 7 (dk_at dksX9_beside_1 15 rfl rfl)
theorem dX9_beside_42 : decode cX9_beside 42 = .ok (.iconst (-1), 1) := dk_2 (dk_at dksX9_beside_1 18 rfl rfl)
theorem dX9_beside_43 : decode cX9_beside 43 = .ok (.goto 4, 3) := dk_167 0 4 (dk_at dksX9_beside_1 19 rfl rfl)
theorem dX9_beside_46 : decode cX9_beside 46 = .ok (.iconst 0, 1) := dk_3 (dk_at dksX9_beside_1 22 rfl rfl)
theorem dX9_beside_47 : decode cX9_beside 47 = .ok (.iadd, 1) := dk_96 (dk_at dksX9_beside_1 23 rfl rfl)
theorem dX9_beside_48 : decode cX9_beside 48 = .ok (.istore 4, 2) := dk_54 4 (dk_at dksX9_beside_2 0 rfl rfl)
theorem dX9_beside_50 : decode cX9_beside 50 = .ok (.aload_n 0, 1) := dk_42 (dk_at dksX9_beside_2 2 rfl rfl)
theorem dX9_beside_51 : decode cX9_beside 51 = .ok (.iload_n 3, 1) := dk_29 (dk_at dksX9_beside_2 3 rfl rfl)
theorem dX9_beside_52 : decode cX9_beside 52 = .ok (.iload 4, 2) := dk_21 4 (dk_at dksX9_beside_2 4 rfl rfl)
theorem dX9_beside_54 : decode cX9_beside 54 = .ok (.invokevirtual 123, 3) := dk_182 0 123 (dk_at dksX9_beside_2 6 rfl rfl)
theorem dX9_beside_57 : decode cX9_beside 57 = .ok (.ifCond .eq 17, 3) := dk_153 0 17 (dk_at dksX9_beside_2 9 rfl rfl)
theorem dX9_beside_60 : decode cX9_beside 60 = .ok (.iconst 4, 1) := dk_7 (dk_at dksX9_beside_2 12 rfl rfl)
theorem dX9_beside_61 : decode cX9_beside 61 = .ok (.aload_n 0, 1) := dk_42 (dk_at dksX9_beside_2 13 rfl rfl)
theorem dX9_beside_62 : decode cX9_beside 62 = .ok (.iload_n 3, 1) := dk_29 (dk_at dksX9_beside_2 14 rfl rfl)
theorem dX9_beside_63 : decode cX9_beside 63 = .ok (.iload 4, 2) := dk_21 4 (dk_at dksX9_beside_2 15 rfl rfl)
theorem dX9_beside_65 : decode cX9_beside 65 = .ok (.invokevirtual 102, 3) := dk_182 0 102 (dk_at dksX9_beside_2 17 rfl rfl)
theorem dX9_beside_68 : decode cX9_beside 68 = .ok (.imul, 1) := dk_104 (dk_at dksX9_beside_2 20 rfl rfl)
theorem dX9_beside_69 : decode cX9_beside 69 = .ok (.iload_n 2, 1) := dk_28 (dk_at dksX9_beside_2 21 rfl rfl)
theorem dX9_beside_70 : decode cX9_beside 70 = .ok (.iadd, 1) := dk_96 (dk_at dksX9_beside_2 22 rfl rfl)
theorem dX9_beside_71 : decode cX9_beside 71 = .ok (.goto 4, 3) := dk_167 0 4 (dk_at dksX9_beside_3 0 rfl rfl)
theorem dX9_beside_74 : decode cX9_beside 74 = .ok (.iconst (-1), 1) := dk_2 (dk_at dksX9_beside_3 3 rfl rfl)
theorem dX9_beside_75 : decode cX9_beside 75 = .ok (.ireturn, 1) := dk_172 (dk_at dksX9_beside_3 4 rfl rfl)
abbrev cX9_onBoard : ByteArray := prog_15_method_9_code
def yX9_onBoard : MethodName := ⟨RX9, "onBoard", "(II)Z"⟩
def dkwX9_onBoard_1 : List UInt8 := [46, 162, 0, 7, 4, 167, 0, 4, 3, 172]
abbrev dktX9_onBoard_1 : List UInt8 := dkwX9_onBoard_1 ++ []
def dkwX9_onBoard_0 : List UInt8 := [27, 155, 0, 31, 27, 42, 180, 0, 9, 3, 46, 162, 0, 21, 28, 155, 0, 17, 28, 42, 180, 0, 9, 4]
abbrev dktX9_onBoard_0 : List UInt8 := dkwX9_onBoard_0 ++ dktX9_onBoard_1
theorem dksX9_onBoard_0 : cX9_onBoard.data.toList.drop 0 = dktX9_onBoard_0 := by decide +kernel
theorem dksX9_onBoard_1 : cX9_onBoard.data.toList.drop 24 = dktX9_onBoard_1 := dk_seg dksX9_onBoard_0 24 rfl rfl
theorem dX9_onBoard_0 : decode cX9_onBoard 0 = .ok (.iload_n 1, 1) := dk_27 (dk_at dksX9_onBoard_0 0 rfl rfl)
theorem dX9_onBoard_1 : decode cX9_onBoard 1 = .ok (.ifCond .lt 31, 3) := dk_155 0 31 (dk_at dksX9_onBoard_0 1 rfl rfl)
theorem dX9_onBoard_4 : decode cX9_onBoard 4 = .ok (.iload_n 1, 1) := dk_27 (dk_at dksX9_onBoard_0 4 rfl rfl)
theorem dX9_onBoard_5 : decode cX9_onBoard 5 = .ok (.aload_n 0, 1) := dk_42 (dk_at dksX9_onBoard_0 5 rfl rfl)
theorem dX9_onBoard_6 : decode cX9_onBoard 6 = .ok (.getfield 9, 3) := dk_180 0 9 (dk_at dksX9_onBoard_0 6 rfl rfl)
theorem dX9_onBoard_9 : decode cX9_onBoard 9 = .ok (.iconst 0, 1) := dk_3 (dk_at dksX9_onBoard_0 9 rfl rfl)
theorem dX9_onBoard_10 : decode cX9_onBoard 10 = .ok (.iaload, 1) := dk_46 (dk_at dksX9_onBoard_0 10 rfl rfl)
theorem dX9_onBoard_11 : decode cX9_onBoard 11 = .ok (.if_icmp .ge 21, 3) := dk_162 0 21 (dk_at dksX9_onBoard_0 11 rfl rfl)
theorem dX9_onBoard_14 : decode cX9_onBoard 14 = .ok (.iload_n 2, 1) := dk_28 (dk_at dksX9_onBoard_0 14 rfl rfl)
theorem dX9_onBoard_15 : decode cX9_onBoard 15 = .ok (.ifCond .lt 17, 3) := dk_155 0 17 (dk_at dksX9_onBoard_0 15 rfl rfl)
theorem dX9_onBoard_18 : decode cX9_onBoard 18 = .ok (.iload_n 2, 1) := dk_28 (dk_at dksX9_onBoard_0 18 rfl rfl)
theorem dX9_onBoard_19 : decode cX9_onBoard 19 = .ok (.aload_n 0, 1) := dk_42 (dk_at dksX9_onBoard_0 19 rfl rfl)
theorem dX9_onBoard_20 : decode cX9_onBoard 20 = .ok (.getfield 9, 3) := dk_180 0 9 (dk_at dksX9_onBoard_0 20 rfl rfl)
theorem dX9_onBoard_23 : decode cX9_onBoard 23 = .ok (.iconst 1, 1) := dk_4 (dk_at dksX9_onBoard_0 23 rfl rfl)
theorem dX9_onBoard_24 : decode cX9_onBoard 24 = .ok (.iaload, 1) := dk_46 (dk_at dksX9_onBoard_1 0 rfl rfl)
theorem dX9_onBoard_25 : decode cX9_onBoard 25 = .ok (.if_icmp .ge 7, 3) := dk_162 0 7 (dk_at dksX9_onBoard_1 1 rfl rfl)
theorem dX9_onBoard_28 : decode cX9_onBoard 28 = .ok (.iconst 1, 1) := dk_4 (dk_at dksX9_onBoard_1 4 rfl rfl)
theorem dX9_onBoard_29 : decode cX9_onBoard 29 = .ok (.goto 4, 3) := dk_167 0 4 (dk_at dksX9_onBoard_1 5 rfl rfl)
theorem dX9_onBoard_32 : decode cX9_onBoard 32 = .ok (.iconst 0, 1) := dk_3 (dk_at dksX9_onBoard_1 8 rfl rfl)
theorem dX9_onBoard_33 : decode cX9_onBoard 33 = .ok (.ireturn, 1) := dk_172 (dk_at dksX9_onBoard_1 9 rfl rfl)
abbrev cX9_spread : ByteArray := prog_15_method_23_code
def yX9_spread : MethodName := ⟨RX9, "spread", "(I[Z)V"⟩
def dkwX9_spread_1 : List UInt8 := [100, 181, 0, 136, 42, 42, 180, 0, 68, 42, 180, 0, 136, 46, 44, 182, 0, 139, 167, 255, 225, 177]
abbrev dktX9_spread_1 : List UInt8 := dkwX9_spread_1 ++ []
def dkwX9_spread_0 : List UInt8 := [42, 3, 181, 0, 136, 42, 27, 44, 182, 0, 139, 42, 180, 0, 136, 158, 0, 30, 42, 89, 180, 0, 136, 4]
abbrev dktX9_spread_0 : List UInt8 := dkwX9_spread_0 ++ dktX9_spread_1
theorem dksX9_spread_0 : cX9_spread.data.toList.drop 0 = dktX9_spread_0 := by decide +kernel
theorem dksX9_spread_1 : cX9_spread.data.toList.drop 24 = dktX9_spread_1 := dk_seg dksX9_spread_0 24 rfl rfl
theorem dX9_spread_0 : decode cX9_spread 0 = .ok (.aload_n 0, 1) := dk_42 (dk_at dksX9_spread_0 0 rfl rfl)
theorem dX9_spread_1 : decode cX9_spread 1 = .ok (.iconst 0, 1) := dk_3 (dk_at dksX9_spread_0 1 rfl rfl)
theorem dX9_spread_2 : decode cX9_spread 2 = .ok (.putfield 136, 3) := dk_181 0 136 (dk_at dksX9_spread_0 2 rfl rfl)
theorem dX9_spread_5 : decode cX9_spread 5 = .ok (.aload_n 0, 1) := dk_42 (dk_at dksX9_spread_0 5 rfl rfl)
theorem dX9_spread_6 : decode cX9_spread 6 = .ok (.iload_n 1, 1) := dk_27 (dk_at dksX9_spread_0 6 rfl rfl)
theorem dX9_spread_7 : decode cX9_spread 7 = .ok (.aload_n 2, 1) := dk_44 (dk_at dksX9_spread_0 7 rfl rfl)
theorem dX9_spread_8 : decode cX9_spread 8 = .ok (.invokevirtual 139, 3) := dk_182 0 139 (dk_at dksX9_spread_0 8 rfl rfl)
theorem dX9_spread_11 : decode cX9_spread 11 = .ok (.aload_n 0, 1) := dk_42 (dk_at dksX9_spread_0 11 rfl rfl)
theorem dX9_spread_12 : decode cX9_spread 12 = .ok (.getfield 136, 3) := dk_180 0 136 (dk_at dksX9_spread_0 12 rfl rfl)
theorem dX9_spread_15 : decode cX9_spread 15 = .ok (.ifCond .le 30, 3) := dk_158 0 30 (dk_at dksX9_spread_0 15 rfl rfl)
theorem dX9_spread_18 : decode cX9_spread 18 = .ok (.aload_n 0, 1) := dk_42 (dk_at dksX9_spread_0 18 rfl rfl)
theorem dX9_spread_19 : decode cX9_spread 19 = .ok (.dup, 1) := dk_89 (dk_at dksX9_spread_0 19 rfl rfl)
theorem dX9_spread_20 : decode cX9_spread 20 = .ok (.getfield 136, 3) := dk_180 0 136 (dk_at dksX9_spread_0 20 rfl rfl)
theorem dX9_spread_23 : decode cX9_spread 23 = .ok (.iconst 1, 1) := dk_4 (dk_at dksX9_spread_0 23 rfl rfl)
theorem dX9_spread_24 : decode cX9_spread 24 = .ok (.isub, 1) := dk_100 (dk_at dksX9_spread_1 0 rfl rfl)
theorem dX9_spread_25 : decode cX9_spread 25 = .ok (.putfield 136, 3) := dk_181 0 136 (dk_at dksX9_spread_1 1 rfl rfl)
theorem dX9_spread_28 : decode cX9_spread 28 = .ok (.aload_n 0, 1) := dk_42 (dk_at dksX9_spread_1 4 rfl rfl)
theorem dX9_spread_29 : decode cX9_spread 29 = .ok (.aload_n 0, 1) := dk_42 (dk_at dksX9_spread_1 5 rfl rfl)
theorem dX9_spread_30 : decode cX9_spread 30 = .ok (.getfield 68, 3) := dk_180 0 68 (dk_at dksX9_spread_1 6 rfl rfl)
theorem dX9_spread_33 : decode cX9_spread 33 = .ok (.aload_n 0, 1) := dk_42 (dk_at dksX9_spread_1 9 rfl rfl)
theorem dX9_spread_34 : decode cX9_spread 34 = .ok (.getfield 136, 3) := dk_180 0 136 (dk_at dksX9_spread_1 10 rfl rfl)
theorem dX9_spread_37 : decode cX9_spread 37 = .ok (.iaload, 1) := dk_46 (dk_at dksX9_spread_1 13 rfl rfl)
theorem dX9_spread_38 : decode cX9_spread 38 = .ok (.aload_n 2, 1) := dk_44 (dk_at dksX9_spread_1 14 rfl rfl)
theorem dX9_spread_39 : decode cX9_spread 39 = .ok (.invokevirtual 139, 3) := dk_182 0 139 (dk_at dksX9_spread_1 15 rfl rfl)
theorem dX9_spread_42 : decode cX9_spread 42 = .ok (.goto (-31), 3) := dk_167 255 225 (dk_at dksX9_spread_1 18 rfl rfl)
theorem dX9_spread_45 : decode cX9_spread 45 = .ok (.return_, 1) := dk_177 (dk_at dksX9_spread_1 21 rfl rfl)
abbrev cX9_markBehind : ByteArray := prog_15_method_22_code
def yX9_markBehind : MethodName := ⟨RX9, "markBehind", "(I[Z)V"⟩
def dkwX9_markBehind_3 : List UInt8 := [181, 0, 136, 132, 4, 1, 167, 255, 188, 177]
abbrev dktX9_markBehind_3 : List UInt8 := dkwX9_markBehind_3 ++ []
def dkwX9_markBehind_2 : List UInt8 := [84, 42, 180, 0, 68, 42, 180, 0, 136, 42, 180, 0, 65, 21, 4, 46, 79, 42, 89, 180, 0, 136, 4, 96]
abbrev dktX9_markBehind_2 : List UInt8 := dkwX9_markBehind_2 ++ dktX9_markBehind_3
def dkwX9_markBehind_1 : List UInt8 := [159, 0, 51, 44, 42, 180, 0, 65, 21, 4, 46, 51, 154, 0, 39, 44, 42, 180, 0, 65, 21, 4, 46, 4]
abbrev dktX9_markBehind_1 : List UInt8 := dkwX9_markBehind_1 ++ dktX9_markBehind_2
def dkwX9_markBehind_0 : List UInt8 := [42, 27, 182, 0, 132, 62, 3, 54, 4, 21, 4, 29, 162, 0, 68, 42, 180, 0, 65, 21, 4, 46, 2]
abbrev dktX9_markBehind_0 : List UInt8 := dkwX9_markBehind_0 ++ dktX9_markBehind_1
theorem dksX9_markBehind_0 : cX9_markBehind.data.toList.drop 0 = dktX9_markBehind_0 := by decide +kernel
theorem dksX9_markBehind_1 : cX9_markBehind.data.toList.drop 23 = dktX9_markBehind_1 := dk_seg dksX9_markBehind_0 23 rfl rfl
theorem dksX9_markBehind_2 : cX9_markBehind.data.toList.drop 47 = dktX9_markBehind_2 := dk_seg dksX9_markBehind_1 24 rfl rfl
theorem dksX9_markBehind_3 : cX9_markBehind.data.toList.drop 71 = dktX9_markBehind_3 := dk_seg dksX9_markBehind_2 24 rfl rfl
theorem dX9_markBehind_0 : decode cX9_markBehind 0 = .ok (.aload_n 0, 1) := dk_42 (dk_at dksX9_markBehind_0 0 rfl rfl)
theorem dX9_markBehind_1 : decode cX9_markBehind 1 = .ok (.iload_n 1, 1) := dk_27 (dk_at dksX9_markBehind_0 1 rfl rfl)
theorem dX9_markBehind_2 : decode cX9_markBehind 2 = .ok (.invokevirtual 132, 3) := dk_182 0 132 (dk_at dksX9_markBehind_0 2 rfl rfl)
theorem dX9_markBehind_5 : decode cX9_markBehind 5 = .ok (.istore_n 3, 1) := dk_62 (dk_at dksX9_markBehind_0 5 rfl rfl)
theorem dX9_markBehind_6 : decode cX9_markBehind 6 = .ok (.iconst 0, 1) := dk_3 (dk_at dksX9_markBehind_0 6 rfl rfl)
theorem dX9_markBehind_7 : decode cX9_markBehind 7 = .ok (.istore 4, 2) := dk_54 4 (dk_at dksX9_markBehind_0 7 rfl rfl)
theorem dX9_markBehind_9 : decode cX9_markBehind 9 = .ok (.iload 4, 2) := dk_21 4 (dk_at dksX9_markBehind_0 9 rfl rfl)
theorem dX9_markBehind_11 : decode cX9_markBehind 11 = .ok (.iload_n 3, 1) := dk_29 (dk_at dksX9_markBehind_0 11 rfl rfl)
theorem dX9_markBehind_12 : decode cX9_markBehind 12 = .ok (.if_icmp .ge 68, 3) := dk_162 0 68 (dk_at dksX9_markBehind_0 12 rfl rfl)
theorem dX9_markBehind_15 : decode cX9_markBehind 15 = .ok (.aload_n 0, 1) := dk_42 (dk_at dksX9_markBehind_0 15 rfl rfl)
theorem dX9_markBehind_16 : decode cX9_markBehind 16 = .ok (.getfield 65, 3) := dk_180 0 65 (dk_at dksX9_markBehind_0 16 rfl rfl)
theorem dX9_markBehind_19 : decode cX9_markBehind 19 = .ok (.iload 4, 2) := dk_21 4 (dk_at dksX9_markBehind_0 19 rfl rfl)
theorem dX9_markBehind_21 : decode cX9_markBehind 21 = .ok (.iaload, 1) := dk_46 (dk_at dksX9_markBehind_0 21 rfl rfl)
theorem dX9_markBehind_22 : decode cX9_markBehind 22 = .ok (.iconst (-1), 1) := dk_2 (dk_at dksX9_markBehind_0 22 rfl rfl)
theorem dX9_markBehind_23 : decode cX9_markBehind 23 = .ok (.if_icmp .eq 51, 3) := dk_159 0 51 (dk_at dksX9_markBehind_1 0 rfl rfl)
theorem dX9_markBehind_26 : decode cX9_markBehind 26 = .ok (.aload_n 2, 1) := dk_44 (dk_at dksX9_markBehind_1 3 rfl rfl)
theorem dX9_markBehind_27 : decode cX9_markBehind 27 = .ok (.aload_n 0, 1) := dk_42 (dk_at dksX9_markBehind_1 4 rfl rfl)
theorem dX9_markBehind_28 : decode cX9_markBehind 28 = .ok (.getfield 65, 3) := dk_180 0 65 (dk_at dksX9_markBehind_1 5 rfl rfl)
theorem dX9_markBehind_31 : decode cX9_markBehind 31 = .ok (.iload 4, 2) := dk_21 4 (dk_at dksX9_markBehind_1 8 rfl rfl)
theorem dX9_markBehind_33 : decode cX9_markBehind 33 = .ok (.iaload, 1) := dk_46 (dk_at dksX9_markBehind_1 10 rfl rfl)
theorem dX9_markBehind_34 : decode cX9_markBehind 34 = .ok (.baload, 1) := dk_51 (dk_at dksX9_markBehind_1 11 rfl rfl)
theorem dX9_markBehind_35 : decode cX9_markBehind 35 = .ok (.ifCond .ne 39, 3) := dk_154 0 39 (dk_at dksX9_markBehind_1 12 rfl rfl)
theorem dX9_markBehind_38 : decode cX9_markBehind 38 = .ok (.aload_n 2, 1) := dk_44 (dk_at dksX9_markBehind_1 15 rfl rfl)
theorem dX9_markBehind_39 : decode cX9_markBehind 39 = .ok (.aload_n 0, 1) := dk_42 (dk_at dksX9_markBehind_1 16 rfl rfl)
theorem dX9_markBehind_40 : decode cX9_markBehind 40 = .ok (.getfield 65, 3) := dk_180 0 65 (dk_at dksX9_markBehind_1 17 rfl rfl)
theorem dX9_markBehind_43 : decode cX9_markBehind 43 = .ok (.iload 4, 2) := dk_21 4 (dk_at dksX9_markBehind_1 20 rfl rfl)
theorem dX9_markBehind_45 : decode cX9_markBehind 45 = .ok (.iaload, 1) := dk_46 (dk_at dksX9_markBehind_1 22 rfl rfl)
theorem dX9_markBehind_46 : decode cX9_markBehind 46 = .ok (.iconst 1, 1) := dk_4 (dk_at dksX9_markBehind_1 23 rfl rfl)
theorem dX9_markBehind_47 : decode cX9_markBehind 47 = .ok (.bastore, 1) := dk_84 (dk_at dksX9_markBehind_2 0 rfl rfl)
theorem dX9_markBehind_48 : decode cX9_markBehind 48 = .ok (.aload_n 0, 1) := dk_42 (dk_at dksX9_markBehind_2 1 rfl rfl)
theorem dX9_markBehind_49 : decode cX9_markBehind 49 = .ok (.getfield 68, 3) := dk_180 0 68 (dk_at dksX9_markBehind_2 2 rfl rfl)
theorem dX9_markBehind_52 : decode cX9_markBehind 52 = .ok (.aload_n 0, 1) := dk_42 (dk_at dksX9_markBehind_2 5 rfl rfl)
theorem dX9_markBehind_53 : decode cX9_markBehind 53 = .ok (.getfield 136, 3) := dk_180 0 136 (dk_at dksX9_markBehind_2 6 rfl rfl)
theorem dX9_markBehind_56 : decode cX9_markBehind 56 = .ok (.aload_n 0, 1) := dk_42 (dk_at dksX9_markBehind_2 9 rfl rfl)
theorem dX9_markBehind_57 : decode cX9_markBehind 57 = .ok (.getfield 65, 3) := dk_180 0 65 (dk_at dksX9_markBehind_2 10 rfl rfl)
theorem dX9_markBehind_60 : decode cX9_markBehind 60 = .ok (.iload 4, 2) := dk_21 4 (dk_at dksX9_markBehind_2 13 rfl rfl)
theorem dX9_markBehind_62 : decode cX9_markBehind 62 = .ok (.iaload, 1) := dk_46 (dk_at dksX9_markBehind_2 15 rfl rfl)
theorem dX9_markBehind_63 : decode cX9_markBehind 63 = .ok (.iastore, 1) := dk_79 (dk_at dksX9_markBehind_2 16 rfl rfl)
theorem dX9_markBehind_64 : decode cX9_markBehind 64 = .ok (.aload_n 0, 1) := dk_42 (dk_at dksX9_markBehind_2 17 rfl rfl)
theorem dX9_markBehind_65 : decode cX9_markBehind 65 = .ok (.dup, 1) := dk_89 (dk_at dksX9_markBehind_2 18 rfl rfl)
theorem dX9_markBehind_66 : decode cX9_markBehind 66 = .ok (.getfield 136, 3) := dk_180 0 136 (dk_at dksX9_markBehind_2 19 rfl rfl)
theorem dX9_markBehind_69 : decode cX9_markBehind 69 = .ok (.iconst 1, 1) := dk_4 (dk_at dksX9_markBehind_2 22 rfl rfl)
theorem dX9_markBehind_70 : decode cX9_markBehind 70 = .ok (.iadd, 1) := dk_96 (dk_at dksX9_markBehind_2 23 rfl rfl)
theorem dX9_markBehind_71 : decode cX9_markBehind 71 = .ok (.putfield 136, 3) := dk_181 0 136 (dk_at dksX9_markBehind_3 0 rfl rfl)
theorem dX9_markBehind_74 : decode cX9_markBehind 74 = .ok (.iinc 4 1, 3) := dk_132 4 1 (dk_at dksX9_markBehind_3 3 rfl rfl)
theorem dX9_markBehind_77 : decode cX9_markBehind 77 = .ok (.goto (-68), 3) := dk_167 255 188 (dk_at dksX9_markBehind_3 6 rfl rfl)
theorem dX9_markBehind_80 : decode cX9_markBehind 80 = .ok (.return_, 1) := dk_177 (dk_at dksX9_markBehind_3 9 rfl rfl)
abbrev cX9_tries : ByteArray := prog_15_method_21_code
def yX9_tries : MethodName := ⟨RX9, "tries", "(I)I"⟩
def dkwX9_tries_7 : List UInt8 := [3, 172]
abbrev dktX9_tries_7 : List UInt8 := dkwX9_tries_7 ++ []
def dkwX9_tries_6 : List UInt8 := [167, 0, 4, 3, 172, 42, 180, 0, 65, 3, 42, 42, 28, 4, 182, 0, 106, 29, 182, 0, 126, 79, 4, 172]
abbrev dktX9_tries_6 : List UInt8 := dkwX9_tries_6 ++ dktX9_tries_7
def dkwX9_tries_5 : List UInt8 := [42, 180, 0, 65, 3, 42, 28, 29, 182, 0, 126, 79, 29, 42, 28, 4, 182, 0, 106, 160, 0, 7, 4]
abbrev dktX9_tries_5 : List UInt8 := dkwX9_tries_5 ++ dktX9_tries_6
def dkwX9_tries_4 : List UInt8 := [79, 42, 180, 0, 65, 4, 42, 28, 29, 42, 28, 4, 182, 0, 106, 184, 0, 129, 182, 0, 126, 79, 5, 172]
abbrev dktX9_tries_4 : List UInt8 := dkwX9_tries_4 ++ dktX9_tries_5
def dkwX9_tries_3 : List UInt8 := [4, 182, 0, 106, 184, 0, 129, 182, 0, 126, 79, 4, 172, 42, 180, 0, 65, 3, 42, 28, 29, 182, 0, 126]
abbrev dktX9_tries_3 : List UInt8 := dkwX9_tries_3 ++ dktX9_tries_4
def dkwX9_tries_2 : List UInt8 := [42, 180, 0, 65, 3, 42, 28, 29, 182, 0, 126, 79, 4, 172, 42, 180, 0, 65, 3, 42, 28, 29, 42, 28]
abbrev dktX9_tries_2 : List UInt8 := dkwX9_tries_2 ++ dktX9_tries_3
def dkwX9_tries_1 : List UInt8 := [170, 0, 0, 0, 0, 161, 0, 0, 0, 0, 0, 0, 0, 6, 0, 0, 0, 42, 0, 0, 0, 161, 0, 0, 0, 56, 0, 0, 0, 79, 0, 0, 0, 161, 0, 0, 0, 114, 0, 0, 0, 142]
abbrev dktX9_tries_1 : List UInt8 := dkwX9_tries_1 ++ dktX9_tries_2
def dkwX9_tries_0 : List UInt8 := [27, 7, 108, 61, 27, 7, 112, 62, 42, 28, 3, 182, 0, 106]
abbrev dktX9_tries_0 : List UInt8 := dkwX9_tries_0 ++ dktX9_tries_1
theorem dksX9_tries_0 : cX9_tries.data.toList.drop 0 = dktX9_tries_0 := by decide +kernel
theorem dksX9_tries_1 : cX9_tries.data.toList.drop 14 = dktX9_tries_1 := dk_seg dksX9_tries_0 14 rfl rfl
theorem dksX9_tries_2 : cX9_tries.data.toList.drop 56 = dktX9_tries_2 := dk_seg dksX9_tries_1 42 rfl rfl
theorem dksX9_tries_3 : cX9_tries.data.toList.drop 80 = dktX9_tries_3 := dk_seg dksX9_tries_2 24 rfl rfl
theorem dksX9_tries_4 : cX9_tries.data.toList.drop 104 = dktX9_tries_4 := dk_seg dksX9_tries_3 24 rfl rfl
theorem dksX9_tries_5 : cX9_tries.data.toList.drop 128 = dktX9_tries_5 := dk_seg dksX9_tries_4 24 rfl rfl
theorem dksX9_tries_6 : cX9_tries.data.toList.drop 151 = dktX9_tries_6 := dk_seg dksX9_tries_5 23 rfl rfl
theorem dksX9_tries_7 : cX9_tries.data.toList.drop 175 = dktX9_tries_7 := dk_seg dksX9_tries_6 24 rfl rfl
theorem dX9_tries_0 : decode cX9_tries 0 = .ok (.iload_n 1, 1) := dk_27 (dk_at dksX9_tries_0 0 rfl rfl)
theorem dX9_tries_1 : decode cX9_tries 1 = .ok (.iconst 4, 1) := dk_7 (dk_at dksX9_tries_0 1 rfl rfl)
theorem dX9_tries_2 : decode cX9_tries 2 = .ok (.idiv, 1) := dk_108 (dk_at dksX9_tries_0 2 rfl rfl)
theorem dX9_tries_3 : decode cX9_tries 3 = .ok (.istore_n 2, 1) := dk_61 (dk_at dksX9_tries_0 3 rfl rfl)
theorem dX9_tries_4 : decode cX9_tries 4 = .ok (.iload_n 1, 1) := dk_27 (dk_at dksX9_tries_0 4 rfl rfl)
theorem dX9_tries_5 : decode cX9_tries 5 = .ok (.iconst 4, 1) := dk_7 (dk_at dksX9_tries_0 5 rfl rfl)
theorem dX9_tries_6 : decode cX9_tries 6 = .ok (.irem, 1) := dk_112 (dk_at dksX9_tries_0 6 rfl rfl)
theorem dX9_tries_7 : decode cX9_tries 7 = .ok (.istore_n 3, 1) := dk_62 (dk_at dksX9_tries_0 7 rfl rfl)
theorem dX9_tries_8 : decode cX9_tries 8 = .ok (.aload_n 0, 1) := dk_42 (dk_at dksX9_tries_0 8 rfl rfl)
theorem dX9_tries_9 : decode cX9_tries 9 = .ok (.iload_n 2, 1) := dk_28 (dk_at dksX9_tries_0 9 rfl rfl)
theorem dX9_tries_10 : decode cX9_tries 10 = .ok (.iconst 0, 1) := dk_3 (dk_at dksX9_tries_0 10 rfl rfl)
theorem dX9_tries_11 : decode cX9_tries 11 = .ok (.invokevirtual 106, 3) := dk_182 0 106 (dk_at dksX9_tries_0 11 rfl rfl)
theorem dX9_tries_14 : decode cX9_tries 14 = .ok (.tableswitch 161 0 6 #[42, 161, 56, 79, 161, 114, 142], 42) := by decide +kernel
theorem dX9_tries_56 : decode cX9_tries 56 = .ok (.aload_n 0, 1) := dk_42 (dk_at dksX9_tries_2 0 rfl rfl)
theorem dX9_tries_57 : decode cX9_tries 57 = .ok (.getfield 65, 3) := dk_180 0 65 (dk_at dksX9_tries_2 1 rfl rfl)
theorem dX9_tries_60 : decode cX9_tries 60 = .ok (.iconst 0, 1) := dk_3 (dk_at dksX9_tries_2 4 rfl rfl)
theorem dX9_tries_61 : decode cX9_tries 61 = .ok (.aload_n 0, 1) := dk_42 (dk_at dksX9_tries_2 5 rfl rfl)
theorem dX9_tries_62 : decode cX9_tries 62 = .ok (.iload_n 2, 1) := dk_28 (dk_at dksX9_tries_2 6 rfl rfl)
theorem dX9_tries_63 : decode cX9_tries 63 = .ok (.iload_n 3, 1) := dk_29 (dk_at dksX9_tries_2 7 rfl rfl)
theorem dX9_tries_64 : decode cX9_tries 64 = .ok (.invokevirtual 126, 3) := dk_182 0 126 (dk_at dksX9_tries_2 8 rfl rfl)
theorem dX9_tries_67 : decode cX9_tries 67 = .ok (.iastore, 1) := dk_79 (dk_at dksX9_tries_2 11 rfl rfl)
theorem dX9_tries_68 : decode cX9_tries 68 = .ok (.iconst 1, 1) := dk_4 (dk_at dksX9_tries_2 12 rfl rfl)
theorem dX9_tries_69 : decode cX9_tries 69 = .ok (.ireturn, 1) := dk_172 (dk_at dksX9_tries_2 13 rfl rfl)
theorem dX9_tries_70 : decode cX9_tries 70 = .ok (.aload_n 0, 1) := dk_42 (dk_at dksX9_tries_2 14 rfl rfl)
theorem dX9_tries_71 : decode cX9_tries 71 = .ok (.getfield 65, 3) := dk_180 0 65 (dk_at dksX9_tries_2 15 rfl rfl)
theorem dX9_tries_74 : decode cX9_tries 74 = .ok (.iconst 0, 1) := dk_3 (dk_at dksX9_tries_2 18 rfl rfl)
theorem dX9_tries_75 : decode cX9_tries 75 = .ok (.aload_n 0, 1) := dk_42 (dk_at dksX9_tries_2 19 rfl rfl)
theorem dX9_tries_76 : decode cX9_tries 76 = .ok (.iload_n 2, 1) := dk_28 (dk_at dksX9_tries_2 20 rfl rfl)
theorem dX9_tries_77 : decode cX9_tries 77 = .ok (.iload_n 3, 1) := dk_29 (dk_at dksX9_tries_2 21 rfl rfl)
theorem dX9_tries_78 : decode cX9_tries 78 = .ok (.aload_n 0, 1) := dk_42 (dk_at dksX9_tries_2 22 rfl rfl)
theorem dX9_tries_79 : decode cX9_tries 79 = .ok (.iload_n 2, 1) := dk_28 (dk_at dksX9_tries_2 23 rfl rfl)
theorem dX9_tries_80 : decode cX9_tries 80 = .ok (.iconst 1, 1) := dk_4 (dk_at dksX9_tries_3 0 rfl rfl)
theorem dX9_tries_81 : decode cX9_tries 81 = .ok (.invokevirtual 106, 3) := dk_182 0 106 (dk_at dksX9_tries_3 1 rfl rfl)
theorem dX9_tries_84 : decode cX9_tries 84 = .ok (.invokestatic 129, 3) := dk_184 0 129 (dk_at dksX9_tries_3 4 rfl rfl)
theorem dX9_tries_87 : decode cX9_tries 87 = .ok (.invokevirtual 126, 3) := dk_182 0 126 (dk_at dksX9_tries_3 7 rfl rfl)
theorem dX9_tries_90 : decode cX9_tries 90 = .ok (.iastore, 1) := dk_79 (dk_at dksX9_tries_3 10 rfl rfl)
theorem dX9_tries_91 : decode cX9_tries 91 = .ok (.iconst 1, 1) := dk_4 (dk_at dksX9_tries_3 11 rfl rfl)
theorem dX9_tries_92 : decode cX9_tries 92 = .ok (.ireturn, 1) := dk_172 (dk_at dksX9_tries_3 12 rfl rfl)
theorem dX9_tries_93 : decode cX9_tries 93 = .ok (.aload_n 0, 1) := dk_42 (dk_at dksX9_tries_3 13 rfl rfl)
theorem dX9_tries_94 : decode cX9_tries 94 = .ok (.getfield 65, 3) := dk_180 0 65 (dk_at dksX9_tries_3 14 rfl rfl)
theorem dX9_tries_97 : decode cX9_tries 97 = .ok (.iconst 0, 1) := dk_3 (dk_at dksX9_tries_3 17 rfl rfl)
theorem dX9_tries_98 : decode cX9_tries 98 = .ok (.aload_n 0, 1) := dk_42 (dk_at dksX9_tries_3 18 rfl rfl)
theorem dX9_tries_99 : decode cX9_tries 99 = .ok (.iload_n 2, 1) := dk_28 (dk_at dksX9_tries_3 19 rfl rfl)
theorem dX9_tries_100 : decode cX9_tries 100 = .ok (.iload_n 3, 1) := dk_29 (dk_at dksX9_tries_3 20 rfl rfl)
theorem dX9_tries_101 : decode cX9_tries 101 = .ok (.invokevirtual 126, 3) := dk_182 0 126 (dk_at dksX9_tries_3 21 rfl rfl)
theorem dX9_tries_104 : decode cX9_tries 104 = .ok (.iastore, 1) := dk_79 (dk_at dksX9_tries_4 0 rfl rfl)
theorem dX9_tries_105 : decode cX9_tries 105 = .ok (.aload_n 0, 1) := dk_42 (dk_at dksX9_tries_4 1 rfl rfl)
theorem dX9_tries_106 : decode cX9_tries 106 = .ok (.getfield 65, 3) := dk_180 0 65 (dk_at dksX9_tries_4 2 rfl rfl)
theorem dX9_tries_109 : decode cX9_tries 109 = .ok (.iconst 1, 1) := dk_4 (dk_at dksX9_tries_4 5 rfl rfl)
theorem dX9_tries_110 : decode cX9_tries 110 = .ok (.aload_n 0, 1) := dk_42 (dk_at dksX9_tries_4 6 rfl rfl)
theorem dX9_tries_111 : decode cX9_tries 111 = .ok (.iload_n 2, 1) := dk_28 (dk_at dksX9_tries_4 7 rfl rfl)
theorem dX9_tries_112 : decode cX9_tries 112 = .ok (.iload_n 3, 1) := dk_29 (dk_at dksX9_tries_4 8 rfl rfl)
theorem dX9_tries_113 : decode cX9_tries 113 = .ok (.aload_n 0, 1) := dk_42 (dk_at dksX9_tries_4 9 rfl rfl)
theorem dX9_tries_114 : decode cX9_tries 114 = .ok (.iload_n 2, 1) := dk_28 (dk_at dksX9_tries_4 10 rfl rfl)
theorem dX9_tries_115 : decode cX9_tries 115 = .ok (.iconst 1, 1) := dk_4 (dk_at dksX9_tries_4 11 rfl rfl)
theorem dX9_tries_116 : decode cX9_tries 116 = .ok (.invokevirtual 106, 3) := dk_182 0 106 (dk_at dksX9_tries_4 12 rfl rfl)
theorem dX9_tries_119 : decode cX9_tries 119 = .ok (.invokestatic 129, 3) := dk_184 0 129 (dk_at dksX9_tries_4 15 rfl rfl)
theorem dX9_tries_122 : decode cX9_tries 122 = .ok (.invokevirtual 126, 3) := dk_182 0 126 (dk_at dksX9_tries_4 18 rfl rfl)
theorem dX9_tries_125 : decode cX9_tries 125 = .ok (.iastore, 1) := dk_79 (dk_at dksX9_tries_4 21 rfl rfl)
theorem dX9_tries_126 : decode cX9_tries 126 = .ok (.iconst 2, 1) := dk_5 (dk_at dksX9_tries_4 22 rfl rfl)
theorem dX9_tries_127 : decode cX9_tries 127 = .ok (.ireturn, 1) := dk_172 (dk_at dksX9_tries_4 23 rfl rfl)
theorem dX9_tries_128 : decode cX9_tries 128 = .ok (.aload_n 0, 1) := dk_42 (dk_at dksX9_tries_5 0 rfl rfl)
theorem dX9_tries_129 : decode cX9_tries 129 = .ok (.getfield 65, 3) := dk_180 0 65 (dk_at dksX9_tries_5 1 rfl rfl)
theorem dX9_tries_132 : decode cX9_tries 132 = .ok (.iconst 0, 1) := dk_3 (dk_at dksX9_tries_5 4 rfl rfl)
theorem dX9_tries_133 : decode cX9_tries 133 = .ok (.aload_n 0, 1) := dk_42 (dk_at dksX9_tries_5 5 rfl rfl)
theorem dX9_tries_134 : decode cX9_tries 134 = .ok (.iload_n 2, 1) := dk_28 (dk_at dksX9_tries_5 6 rfl rfl)
theorem dX9_tries_135 : decode cX9_tries 135 = .ok (.iload_n 3, 1) := dk_29 (dk_at dksX9_tries_5 7 rfl rfl)
theorem dX9_tries_136 : decode cX9_tries 136 = .ok (.invokevirtual 126, 3) := dk_182 0 126 (dk_at dksX9_tries_5 8 rfl rfl)
theorem dX9_tries_139 : decode cX9_tries 139 = .ok (.iastore, 1) := dk_79 (dk_at dksX9_tries_5 11 rfl rfl)
theorem dX9_tries_140 : decode cX9_tries 140 = .ok (.iload_n 3, 1) := dk_29 (dk_at dksX9_tries_5 12 rfl rfl)
theorem dX9_tries_141 : decode cX9_tries 141 = .ok (.aload_n 0, 1) := dk_42 (dk_at dksX9_tries_5 13 rfl rfl)
theorem dX9_tries_142 : decode cX9_tries 142 = .ok (.iload_n 2, 1) := dk_28 (dk_at dksX9_tries_5 14 rfl rfl)
theorem dX9_tries_143 : decode cX9_tries 143 = .ok (.iconst 1, 1) := dk_4 (dk_at dksX9_tries_5 15 rfl rfl)
theorem dX9_tries_144 : decode cX9_tries 144 = .ok (.invokevirtual 106, 3) := dk_182 0 106 (dk_at dksX9_tries_5 16 rfl rfl)
theorem dX9_tries_147 : decode cX9_tries 147 = .ok (.if_icmp .ne 7, 3) := dk_160 0 7 (dk_at dksX9_tries_5 19 rfl rfl)
theorem dX9_tries_150 : decode cX9_tries 150 = .ok (.iconst 1, 1) := dk_4 (dk_at dksX9_tries_5 22 rfl rfl)
theorem dX9_tries_151 : decode cX9_tries 151 = .ok (.goto 4, 3) := dk_167 0 4 (dk_at dksX9_tries_6 0 rfl rfl)
theorem dX9_tries_154 : decode cX9_tries 154 = .ok (.iconst 0, 1) := dk_3 (dk_at dksX9_tries_6 3 rfl rfl)
theorem dX9_tries_155 : decode cX9_tries 155 = .ok (.ireturn, 1) := dk_172 (dk_at dksX9_tries_6 4 rfl rfl)
theorem dX9_tries_156 : decode cX9_tries 156 = .ok (.aload_n 0, 1) := dk_42 (dk_at dksX9_tries_6 5 rfl rfl)
theorem dX9_tries_157 : decode cX9_tries 157 = .ok (.getfield 65, 3) := dk_180 0 65 (dk_at dksX9_tries_6 6 rfl rfl)
theorem dX9_tries_160 : decode cX9_tries 160 = .ok (.iconst 0, 1) := dk_3 (dk_at dksX9_tries_6 9 rfl rfl)
theorem dX9_tries_161 : decode cX9_tries 161 = .ok (.aload_n 0, 1) := dk_42 (dk_at dksX9_tries_6 10 rfl rfl)
theorem dX9_tries_162 : decode cX9_tries 162 = .ok (.aload_n 0, 1) := dk_42 (dk_at dksX9_tries_6 11 rfl rfl)
theorem dX9_tries_163 : decode cX9_tries 163 = .ok (.iload_n 2, 1) := dk_28 (dk_at dksX9_tries_6 12 rfl rfl)
theorem dX9_tries_164 : decode cX9_tries 164 = .ok (.iconst 1, 1) := dk_4 (dk_at dksX9_tries_6 13 rfl rfl)
theorem dX9_tries_165 : decode cX9_tries 165 = .ok (.invokevirtual 106, 3) := dk_182 0 106 (dk_at dksX9_tries_6 14 rfl rfl)
theorem dX9_tries_168 : decode cX9_tries 168 = .ok (.iload_n 3, 1) := dk_29 (dk_at dksX9_tries_6 17 rfl rfl)
theorem dX9_tries_169 : decode cX9_tries 169 = .ok (.invokevirtual 126, 3) := dk_182 0 126 (dk_at dksX9_tries_6 18 rfl rfl)
theorem dX9_tries_172 : decode cX9_tries 172 = .ok (.iastore, 1) := dk_79 (dk_at dksX9_tries_6 21 rfl rfl)
theorem dX9_tries_173 : decode cX9_tries 173 = .ok (.iconst 1, 1) := dk_4 (dk_at dksX9_tries_6 22 rfl rfl)
theorem dX9_tries_174 : decode cX9_tries 174 = .ok (.ireturn, 1) := dk_172 (dk_at dksX9_tries_6 23 rfl rfl)
theorem dX9_tries_175 : decode cX9_tries 175 = .ok (.iconst 0, 1) := dk_3 (dk_at dksX9_tries_7 0 rfl rfl)
theorem dX9_tries_176 : decode cX9_tries 176 = .ok (.ireturn, 1) := dk_172 (dk_at dksX9_tries_7 1 rfl rfl)
abbrev cX9_turned : ByteArray := prog_15_method_20_code
def yX9_turned : MethodName := ⟨RX9, "turned", "(II)I"⟩
def dkwX9_turned_0 : List UInt8 := [27, 154, 0, 9, 26, 4, 130, 167, 0, 6, 6, 26, 100, 172]
abbrev dktX9_turned_0 : List UInt8 := dkwX9_turned_0 ++ []
theorem dksX9_turned_0 : cX9_turned.data.toList.drop 0 = dktX9_turned_0 := by decide +kernel
theorem dX9_turned_0 : decode cX9_turned 0 = .ok (.iload_n 1, 1) := dk_27 (dk_at dksX9_turned_0 0 rfl rfl)
theorem dX9_turned_1 : decode cX9_turned 1 = .ok (.ifCond .ne 9, 3) := dk_154 0 9 (dk_at dksX9_turned_0 1 rfl rfl)
theorem dX9_turned_4 : decode cX9_turned 4 = .ok (.iload_n 0, 1) := dk_26 (dk_at dksX9_turned_0 4 rfl rfl)
theorem dX9_turned_5 : decode cX9_turned 5 = .ok (.iconst 1, 1) := dk_4 (dk_at dksX9_turned_0 5 rfl rfl)
theorem dX9_turned_6 : decode cX9_turned 6 = .ok (.ixor, 1) := dk_130 (dk_at dksX9_turned_0 6 rfl rfl)
theorem dX9_turned_7 : decode cX9_turned 7 = .ok (.goto 6, 3) := dk_167 0 6 (dk_at dksX9_turned_0 7 rfl rfl)
theorem dX9_turned_10 : decode cX9_turned 10 = .ok (.iconst 3, 1) := dk_6 (dk_at dksX9_turned_0 10 rfl rfl)
theorem dX9_turned_11 : decode cX9_turned 11 = .ok (.iload_n 0, 1) := dk_26 (dk_at dksX9_turned_0 11 rfl rfl)
theorem dX9_turned_12 : decode cX9_turned 12 = .ok (.isub, 1) := dk_100 (dk_at dksX9_turned_0 12 rfl rfl)
theorem dX9_turned_13 : decode cX9_turned 13 = .ok (.ireturn, 1) := dk_172 (dk_at dksX9_turned_0 13 rfl rfl)
abbrev cX9_count : ByteArray := prog_15_method_14_code
def yX9_count : MethodName := ⟨RX9, "count", "(I)I"⟩
def dkwX9_count_2 : List UInt8 := [153, 0, 12, 21, 4, 153, 0, 7, 4, 167, 0, 4, 3, 96, 61, 132, 3, 1, 167, 255, 196, 28, 172]
abbrev dktX9_count_2 : List UInt8 := dkwX9_count_2 ++ []
def dkwX9_count_1 : List UInt8 := [29, 3, 182, 0, 106, 27, 160, 0, 7, 4, 167, 0, 4, 3, 54, 4, 28, 42, 29, 182, 0, 113]
abbrev dktX9_count_1 : List UInt8 := dkwX9_count_1 ++ dktX9_count_2
def dkwX9_count_0 : List UInt8 := [3, 61, 3, 62, 29, 16, 100, 162, 0, 60, 27, 5, 160, 0, 11, 42, 29, 182, 0, 109, 167, 0, 18, 42]
abbrev dktX9_count_0 : List UInt8 := dkwX9_count_0 ++ dktX9_count_1
theorem dksX9_count_0 : cX9_count.data.toList.drop 0 = dktX9_count_0 := by decide +kernel
theorem dksX9_count_1 : cX9_count.data.toList.drop 24 = dktX9_count_1 := dk_seg dksX9_count_0 24 rfl rfl
theorem dksX9_count_2 : cX9_count.data.toList.drop 46 = dktX9_count_2 := dk_seg dksX9_count_1 22 rfl rfl
theorem dX9_count_0 : decode cX9_count 0 = .ok (.iconst 0, 1) := dk_3 (dk_at dksX9_count_0 0 rfl rfl)
theorem dX9_count_1 : decode cX9_count 1 = .ok (.istore_n 2, 1) := dk_61 (dk_at dksX9_count_0 1 rfl rfl)
theorem dX9_count_2 : decode cX9_count 2 = .ok (.iconst 0, 1) := dk_3 (dk_at dksX9_count_0 2 rfl rfl)
theorem dX9_count_3 : decode cX9_count 3 = .ok (.istore_n 3, 1) := dk_62 (dk_at dksX9_count_0 3 rfl rfl)
theorem dX9_count_4 : decode cX9_count 4 = .ok (.iload_n 3, 1) := dk_29 (dk_at dksX9_count_0 4 rfl rfl)
theorem dX9_count_5 : decode cX9_count 5 = .ok (.bipush 100, 2) := dk_16 100 (dk_at dksX9_count_0 5 rfl rfl)
theorem dX9_count_7 : decode cX9_count 7 = .ok (.if_icmp .ge 60, 3) := dk_162 0 60 (dk_at dksX9_count_0 7 rfl rfl)
theorem dX9_count_10 : decode cX9_count 10 = .ok (.iload_n 1, 1) := dk_27 (dk_at dksX9_count_0 10 rfl rfl)
theorem dX9_count_11 : decode cX9_count 11 = .ok (.iconst 2, 1) := dk_5 (dk_at dksX9_count_0 11 rfl rfl)
theorem dX9_count_12 : decode cX9_count 12 = .ok (.if_icmp .ne 11, 3) := dk_160 0 11 (dk_at dksX9_count_0 12 rfl rfl)
theorem dX9_count_15 : decode cX9_count 15 = .ok (.aload_n 0, 1) := dk_42 (dk_at dksX9_count_0 15 rfl rfl)
theorem dX9_count_16 : decode cX9_count 16 = .ok (.iload_n 3, 1) := dk_29 (dk_at dksX9_count_0 16 rfl rfl)
theorem dX9_count_17 : decode cX9_count 17 = .ok (.invokevirtual 109, 3) := dk_182 0 109 (dk_at dksX9_count_0 17 rfl rfl)
theorem dX9_count_20 : decode cX9_count 20 = .ok (.goto 18, 3) := dk_167 0 18 (dk_at dksX9_count_0 20 rfl rfl)
theorem dX9_count_23 : decode cX9_count 23 = .ok (.aload_n 0, 1) := dk_42 (dk_at dksX9_count_0 23 rfl rfl)
theorem dX9_count_24 : decode cX9_count 24 = .ok (.iload_n 3, 1) := dk_29 (dk_at dksX9_count_1 0 rfl rfl)
theorem dX9_count_25 : decode cX9_count 25 = .ok (.iconst 0, 1) := dk_3 (dk_at dksX9_count_1 1 rfl rfl)
theorem dX9_count_26 : decode cX9_count 26 = .ok (.invokevirtual 106, 3) := dk_182 0 106 (dk_at dksX9_count_1 2 rfl rfl)
theorem dX9_count_29 : decode cX9_count 29 = .ok (.iload_n 1, 1) := dk_27 (dk_at dksX9_count_1 5 rfl rfl)
theorem dX9_count_30 : decode cX9_count 30 = .ok (.if_icmp .ne 7, 3) := dk_160 0 7 (dk_at dksX9_count_1 6 rfl rfl)
theorem dX9_count_33 : decode cX9_count 33 = .ok (.iconst 1, 1) := dk_4 (dk_at dksX9_count_1 9 rfl rfl)
theorem dX9_count_34 : decode cX9_count 34 = .ok (.goto 4, 3) := dk_167 0 4 (dk_at dksX9_count_1 10 rfl rfl)
theorem dX9_count_37 : decode cX9_count 37 = .ok (.iconst 0, 1) := dk_3 (dk_at dksX9_count_1 13 rfl rfl)
theorem dX9_count_38 : decode cX9_count 38 = .ok (.istore 4, 2) := dk_54 4 (dk_at dksX9_count_1 14 rfl rfl)
theorem dX9_count_40 : decode cX9_count 40 = .ok (.iload_n 2, 1) := dk_28 (dk_at dksX9_count_1 16 rfl rfl)
theorem dX9_count_41 : decode cX9_count 41 = .ok (.aload_n 0, 1) := dk_42 (dk_at dksX9_count_1 17 rfl rfl)
theorem dX9_count_42 : decode cX9_count 42 = .ok (.iload_n 3, 1) := dk_29 (dk_at dksX9_count_1 18 rfl rfl)
theorem dX9_count_43 : decode cX9_count 43 = .ok (.invokevirtual 113, 3) := dk_182 0 113 (dk_at dksX9_count_1 19 rfl rfl)
theorem dX9_count_46 : decode cX9_count 46 = .ok (.ifCond .eq 12, 3) := dk_153 0 12 (dk_at dksX9_count_2 0 rfl rfl)
theorem dX9_count_49 : decode cX9_count 49 = .ok (.iload 4, 2) := dk_21 4 (dk_at dksX9_count_2 3 rfl rfl)
theorem dX9_count_51 : decode cX9_count 51 = .ok (.ifCond .eq 7, 3) := dk_153 0 7 (dk_at dksX9_count_2 5 rfl rfl)
theorem dX9_count_54 : decode cX9_count 54 = .ok (.iconst 1, 1) := dk_4 (dk_at dksX9_count_2 8 rfl rfl)
theorem dX9_count_55 : decode cX9_count 55 = .ok (.goto 4, 3) := dk_167 0 4 (dk_at dksX9_count_2 9 rfl rfl)
theorem dX9_count_58 : decode cX9_count 58 = .ok (.iconst 0, 1) := dk_3 (dk_at dksX9_count_2 12 rfl rfl)
theorem dX9_count_59 : decode cX9_count 59 = .ok (.iadd, 1) := dk_96 (dk_at dksX9_count_2 13 rfl rfl)
theorem dX9_count_60 : decode cX9_count 60 = .ok (.istore_n 2, 1) := dk_61 (dk_at dksX9_count_2 14 rfl rfl)
theorem dX9_count_61 : decode cX9_count 61 = .ok (.iinc 3 1, 3) := dk_132 3 1 (dk_at dksX9_count_2 15 rfl rfl)
theorem dX9_count_64 : decode cX9_count 64 = .ok (.goto (-60), 3) := dk_167 255 196 (dk_at dksX9_count_2 18 rfl rfl)
theorem dX9_count_67 : decode cX9_count 67 = .ok (.iload_n 2, 1) := dk_28 (dk_at dksX9_count_2 21 rfl rfl)
theorem dX9_count_68 : decode cX9_count 68 = .ok (.ireturn, 1) := dk_172 (dk_at dksX9_count_2 22 rfl rfl)
abbrev cX9_litIn : ByteArray := prog_15_method_29_code
def yX9_litIn : MethodName := ⟨RX9, "litIn", "(I)I"⟩
def dkwX9_litIn_1 : List UInt8 := [29, 120, 167, 0, 4, 3, 96, 61, 132, 3, 1, 167, 255, 225, 28, 172]
abbrev dktX9_litIn_1 : List UInt8 := dkwX9_litIn_1 ++ []
def dkwX9_litIn_0 : List UInt8 := [3, 61, 3, 62, 29, 7, 162, 0, 32, 28, 42, 180, 0, 50, 7, 27, 104, 29, 96, 51, 153, 0, 9, 4]
abbrev dktX9_litIn_0 : List UInt8 := dkwX9_litIn_0 ++ dktX9_litIn_1
theorem dksX9_litIn_0 : cX9_litIn.data.toList.drop 0 = dktX9_litIn_0 := by decide +kernel
theorem dksX9_litIn_1 : cX9_litIn.data.toList.drop 24 = dktX9_litIn_1 := dk_seg dksX9_litIn_0 24 rfl rfl
theorem dX9_litIn_0 : decode cX9_litIn 0 = .ok (.iconst 0, 1) := dk_3 (dk_at dksX9_litIn_0 0 rfl rfl)
theorem dX9_litIn_1 : decode cX9_litIn 1 = .ok (.istore_n 2, 1) := dk_61 (dk_at dksX9_litIn_0 1 rfl rfl)
theorem dX9_litIn_2 : decode cX9_litIn 2 = .ok (.iconst 0, 1) := dk_3 (dk_at dksX9_litIn_0 2 rfl rfl)
theorem dX9_litIn_3 : decode cX9_litIn 3 = .ok (.istore_n 3, 1) := dk_62 (dk_at dksX9_litIn_0 3 rfl rfl)
theorem dX9_litIn_4 : decode cX9_litIn 4 = .ok (.iload_n 3, 1) := dk_29 (dk_at dksX9_litIn_0 4 rfl rfl)
theorem dX9_litIn_5 : decode cX9_litIn 5 = .ok (.iconst 4, 1) := dk_7 (dk_at dksX9_litIn_0 5 rfl rfl)
theorem dX9_litIn_6 : decode cX9_litIn 6 = .ok (.if_icmp .ge 32, 3) := dk_162 0 32 (dk_at dksX9_litIn_0 6 rfl rfl)
theorem dX9_litIn_9 : decode cX9_litIn 9 = .ok (.iload_n 2, 1) := dk_28 (dk_at dksX9_litIn_0 9 rfl rfl)
theorem dX9_litIn_10 : decode cX9_litIn 10 = .ok (.aload_n 0, 1) := dk_42 (dk_at dksX9_litIn_0 10 rfl rfl)
theorem dX9_litIn_11 : decode cX9_litIn 11 = .ok (.getfield 50, 3) := dk_180 0 50 (dk_at dksX9_litIn_0 11 rfl rfl)
theorem dX9_litIn_14 : decode cX9_litIn 14 = .ok (.iconst 4, 1) := dk_7 (dk_at dksX9_litIn_0 14 rfl rfl)
theorem dX9_litIn_15 : decode cX9_litIn 15 = .ok (.iload_n 1, 1) := dk_27 (dk_at dksX9_litIn_0 15 rfl rfl)
theorem dX9_litIn_16 : decode cX9_litIn 16 = .ok (.imul, 1) := dk_104 (dk_at dksX9_litIn_0 16 rfl rfl)
theorem dX9_litIn_17 : decode cX9_litIn 17 = .ok (.iload_n 3, 1) := dk_29 (dk_at dksX9_litIn_0 17 rfl rfl)
theorem dX9_litIn_18 : decode cX9_litIn 18 = .ok (.iadd, 1) := dk_96 (dk_at dksX9_litIn_0 18 rfl rfl)
theorem dX9_litIn_19 : decode cX9_litIn 19 = .ok (.baload, 1) := dk_51 (dk_at dksX9_litIn_0 19 rfl rfl)
theorem dX9_litIn_20 : decode cX9_litIn 20 = .ok (.ifCond .eq 9, 3) := dk_153 0 9 (dk_at dksX9_litIn_0 20 rfl rfl)
theorem dX9_litIn_23 : decode cX9_litIn 23 = .ok (.iconst 1, 1) := dk_4 (dk_at dksX9_litIn_0 23 rfl rfl)
theorem dX9_litIn_24 : decode cX9_litIn 24 = .ok (.iload_n 3, 1) := dk_29 (dk_at dksX9_litIn_1 0 rfl rfl)
theorem dX9_litIn_25 : decode cX9_litIn 25 = .ok (.ishl, 1) := dk_120 (dk_at dksX9_litIn_1 1 rfl rfl)
theorem dX9_litIn_26 : decode cX9_litIn 26 = .ok (.goto 4, 3) := dk_167 0 4 (dk_at dksX9_litIn_1 2 rfl rfl)
theorem dX9_litIn_29 : decode cX9_litIn 29 = .ok (.iconst 0, 1) := dk_3 (dk_at dksX9_litIn_1 5 rfl rfl)
theorem dX9_litIn_30 : decode cX9_litIn 30 = .ok (.iadd, 1) := dk_96 (dk_at dksX9_litIn_1 6 rfl rfl)
theorem dX9_litIn_31 : decode cX9_litIn 31 = .ok (.istore_n 2, 1) := dk_61 (dk_at dksX9_litIn_1 7 rfl rfl)
theorem dX9_litIn_32 : decode cX9_litIn 32 = .ok (.iinc 3 1, 3) := dk_132 3 1 (dk_at dksX9_litIn_1 8 rfl rfl)
theorem dX9_litIn_35 : decode cX9_litIn 35 = .ok (.goto (-31), 3) := dk_167 255 225 (dk_at dksX9_litIn_1 11 rfl rfl)
theorem dX9_litIn_38 : decode cX9_litIn 38 = .ok (.iload_n 2, 1) := dk_28 (dk_at dksX9_litIn_1 14 rfl rfl)
theorem dX9_litIn_39 : decode cX9_litIn 39 = .ok (.ireturn, 1) := dk_172 (dk_at dksX9_litIn_1 15 rfl rfl)
abbrev cX9_thrown : ByteArray := prog_15_method_2_code
def yX9_thrown : MethodName := ⟨RX9, "thrown", "()I"⟩
theorem dX9_thrown_0 : decode cX9_thrown 0 = .ok (.aload_n 0, 1) := by decide +kernel
theorem dX9_thrown_1 : decode cX9_thrown 1 = .ok (.getfield 83, 3) := by decide +kernel
theorem dX9_thrown_4 : decode cX9_thrown 4 = .ok (.ireturn, 1) := by decide +kernel
abbrev cX9_putWall : ByteArray := prog_15_method_44_code
def yX9_putWall : MethodName := ⟨RX9, "putWall", "(II)I"⟩
def dkwX9_putWall_1 : List UInt8 := [153, 0, 8, 29, 116, 167, 0, 12, 42, 27, 28, 4, 2, 3, 182, 0, 197, 172]
abbrev dktX9_putWall_1 : List UInt8 := dkwX9_putWall_1 ++ []
def dkwX9_putWall_0 : List UInt8 := [42, 3, 181, 0, 83, 42, 27, 28, 182, 0, 191, 153, 0, 5, 3, 172, 42, 27, 28, 182, 0, 194, 62, 29]
abbrev dktX9_putWall_0 : List UInt8 := dkwX9_putWall_0 ++ dktX9_putWall_1
theorem dksX9_putWall_0 : cX9_putWall.data.toList.drop 0 = dktX9_putWall_0 := by decide +kernel
theorem dksX9_putWall_1 : cX9_putWall.data.toList.drop 24 = dktX9_putWall_1 := dk_seg dksX9_putWall_0 24 rfl rfl
theorem dX9_putWall_0 : decode cX9_putWall 0 = .ok (.aload_n 0, 1) := dk_42 (dk_at dksX9_putWall_0 0 rfl rfl)
theorem dX9_putWall_1 : decode cX9_putWall 1 = .ok (.iconst 0, 1) := dk_3 (dk_at dksX9_putWall_0 1 rfl rfl)
theorem dX9_putWall_2 : decode cX9_putWall 2 = .ok (.putfield 83, 3) := dk_181 0 83 (dk_at dksX9_putWall_0 2 rfl rfl)
theorem dX9_putWall_5 : decode cX9_putWall 5 = .ok (.aload_n 0, 1) := dk_42 (dk_at dksX9_putWall_0 5 rfl rfl)
theorem dX9_putWall_6 : decode cX9_putWall 6 = .ok (.iload_n 1, 1) := dk_27 (dk_at dksX9_putWall_0 6 rfl rfl)
theorem dX9_putWall_7 : decode cX9_putWall 7 = .ok (.iload_n 2, 1) := dk_28 (dk_at dksX9_putWall_0 7 rfl rfl)
theorem dX9_putWall_8 : decode cX9_putWall 8 = .ok (.invokevirtual 191, 3) := dk_182 0 191 (dk_at dksX9_putWall_0 8 rfl rfl)
theorem dX9_putWall_11 : decode cX9_putWall 11 = .ok (.ifCond .eq 5, 3) := dk_153 0 5 (dk_at dksX9_putWall_0 11 rfl rfl)
theorem dX9_putWall_14 : decode cX9_putWall 14 = .ok (.iconst 0, 1) := dk_3 (dk_at dksX9_putWall_0 14 rfl rfl)
theorem dX9_putWall_15 : decode cX9_putWall 15 = .ok (.ireturn, 1) := dk_172 (dk_at dksX9_putWall_0 15 rfl rfl)
theorem dX9_putWall_16 : decode cX9_putWall 16 = .ok (.aload_n 0, 1) := dk_42 (dk_at dksX9_putWall_0 16 rfl rfl)
theorem dX9_putWall_17 : decode cX9_putWall 17 = .ok (.iload_n 1, 1) := dk_27 (dk_at dksX9_putWall_0 17 rfl rfl)
theorem dX9_putWall_18 : decode cX9_putWall 18 = .ok (.iload_n 2, 1) := dk_28 (dk_at dksX9_putWall_0 18 rfl rfl)
theorem dX9_putWall_19 : decode cX9_putWall 19 = .ok (.invokevirtual 194, 3) := dk_182 0 194 (dk_at dksX9_putWall_0 19 rfl rfl)
theorem dX9_putWall_22 : decode cX9_putWall 22 = .ok (.istore_n 3, 1) := dk_62 (dk_at dksX9_putWall_0 22 rfl rfl)
theorem dX9_putWall_23 : decode cX9_putWall 23 = .ok (.iload_n 3, 1) := dk_29 (dk_at dksX9_putWall_0 23 rfl rfl)
theorem dX9_putWall_24 : decode cX9_putWall 24 = .ok (.ifCond .eq 8, 3) := dk_153 0 8 (dk_at dksX9_putWall_1 0 rfl rfl)
theorem dX9_putWall_27 : decode cX9_putWall 27 = .ok (.iload_n 3, 1) := dk_29 (dk_at dksX9_putWall_1 3 rfl rfl)
theorem dX9_putWall_28 : decode cX9_putWall 28 = .ok (.ineg, 1) := dk_116 (dk_at dksX9_putWall_1 4 rfl rfl)
theorem dX9_putWall_29 : decode cX9_putWall 29 = .ok (.goto 12, 3) := dk_167 0 12 (dk_at dksX9_putWall_1 5 rfl rfl)
theorem dX9_putWall_32 : decode cX9_putWall 32 = .ok (.aload_n 0, 1) := dk_42 (dk_at dksX9_putWall_1 8 rfl rfl)
theorem dX9_putWall_33 : decode cX9_putWall 33 = .ok (.iload_n 1, 1) := dk_27 (dk_at dksX9_putWall_1 9 rfl rfl)
theorem dX9_putWall_34 : decode cX9_putWall 34 = .ok (.iload_n 2, 1) := dk_28 (dk_at dksX9_putWall_1 10 rfl rfl)
theorem dX9_putWall_35 : decode cX9_putWall 35 = .ok (.iconst 1, 1) := dk_4 (dk_at dksX9_putWall_1 11 rfl rfl)
theorem dX9_putWall_36 : decode cX9_putWall 36 = .ok (.iconst (-1), 1) := dk_2 (dk_at dksX9_putWall_1 12 rfl rfl)
theorem dX9_putWall_37 : decode cX9_putWall 37 = .ok (.iconst 0, 1) := dk_3 (dk_at dksX9_putWall_1 13 rfl rfl)
theorem dX9_putWall_38 : decode cX9_putWall 38 = .ok (.invokevirtual 197, 3) := dk_182 0 197 (dk_at dksX9_putWall_1 14 rfl rfl)
theorem dX9_putWall_41 : decode cX9_putWall 41 = .ok (.ireturn, 1) := dk_172 (dk_at dksX9_putWall_1 17 rfl rfl)
abbrev cX9_noCell : ByteArray := prog_15_method_41_code
def yX9_noCell : MethodName := ⟨RX9, "noCell", "(II)Z"⟩
def dkwX9_noCell_0 : List UInt8 := [42, 27, 28, 182, 0, 123, 154, 0, 10, 42, 4, 181, 0, 83, 4, 172, 3, 172]
abbrev dktX9_noCell_0 : List UInt8 := dkwX9_noCell_0 ++ []
theorem dksX9_noCell_0 : cX9_noCell.data.toList.drop 0 = dktX9_noCell_0 := by decide +kernel
theorem dX9_noCell_0 : decode cX9_noCell 0 = .ok (.aload_n 0, 1) := dk_42 (dk_at dksX9_noCell_0 0 rfl rfl)
theorem dX9_noCell_1 : decode cX9_noCell 1 = .ok (.iload_n 1, 1) := dk_27 (dk_at dksX9_noCell_0 1 rfl rfl)
theorem dX9_noCell_2 : decode cX9_noCell 2 = .ok (.iload_n 2, 1) := dk_28 (dk_at dksX9_noCell_0 2 rfl rfl)
theorem dX9_noCell_3 : decode cX9_noCell 3 = .ok (.invokevirtual 123, 3) := dk_182 0 123 (dk_at dksX9_noCell_0 3 rfl rfl)
theorem dX9_noCell_6 : decode cX9_noCell 6 = .ok (.ifCond .ne 10, 3) := dk_154 0 10 (dk_at dksX9_noCell_0 6 rfl rfl)
theorem dX9_noCell_9 : decode cX9_noCell 9 = .ok (.aload_n 0, 1) := dk_42 (dk_at dksX9_noCell_0 9 rfl rfl)
theorem dX9_noCell_10 : decode cX9_noCell 10 = .ok (.iconst 1, 1) := dk_4 (dk_at dksX9_noCell_0 10 rfl rfl)
theorem dX9_noCell_11 : decode cX9_noCell 11 = .ok (.putfield 83, 3) := dk_181 0 83 (dk_at dksX9_noCell_0 11 rfl rfl)
theorem dX9_noCell_14 : decode cX9_noCell 14 = .ok (.iconst 1, 1) := dk_4 (dk_at dksX9_noCell_0 14 rfl rfl)
theorem dX9_noCell_15 : decode cX9_noCell 15 = .ok (.ireturn, 1) := dk_172 (dk_at dksX9_noCell_0 15 rfl rfl)
theorem dX9_noCell_16 : decode cX9_noCell 16 = .ok (.iconst 0, 1) := dk_3 (dk_at dksX9_noCell_0 16 rfl rfl)
theorem dX9_noCell_17 : decode cX9_noCell 17 = .ok (.ireturn, 1) := dk_172 (dk_at dksX9_noCell_0 17 rfl rfl)
abbrev cX9_noLay : ByteArray := prog_15_method_42_code
def yX9_noLay : MethodName := ⟨RX9, "noLay", "(II)I"⟩
def dkwX9_noLay_1 : List UInt8 := [153, 0, 7, 6, 167, 0, 4, 3, 172]
abbrev dktX9_noLay_1 : List UInt8 := dkwX9_noLay_1 ++ []
def dkwX9_noLay_0 : List UInt8 := [42, 180, 0, 9, 7, 46, 158, 0, 7, 5, 167, 0, 22, 42, 42, 27, 28, 182, 0, 102, 3, 182, 0, 106]
abbrev dktX9_noLay_0 : List UInt8 := dkwX9_noLay_0 ++ dktX9_noLay_1
theorem dksX9_noLay_0 : cX9_noLay.data.toList.drop 0 = dktX9_noLay_0 := by decide +kernel
theorem dksX9_noLay_1 : cX9_noLay.data.toList.drop 24 = dktX9_noLay_1 := dk_seg dksX9_noLay_0 24 rfl rfl
theorem dX9_noLay_0 : decode cX9_noLay 0 = .ok (.aload_n 0, 1) := dk_42 (dk_at dksX9_noLay_0 0 rfl rfl)
theorem dX9_noLay_1 : decode cX9_noLay 1 = .ok (.getfield 9, 3) := dk_180 0 9 (dk_at dksX9_noLay_0 1 rfl rfl)
theorem dX9_noLay_4 : decode cX9_noLay 4 = .ok (.iconst 4, 1) := dk_7 (dk_at dksX9_noLay_0 4 rfl rfl)
theorem dX9_noLay_5 : decode cX9_noLay 5 = .ok (.iaload, 1) := dk_46 (dk_at dksX9_noLay_0 5 rfl rfl)
theorem dX9_noLay_6 : decode cX9_noLay 6 = .ok (.ifCond .le 7, 3) := dk_158 0 7 (dk_at dksX9_noLay_0 6 rfl rfl)
theorem dX9_noLay_9 : decode cX9_noLay 9 = .ok (.iconst 2, 1) := dk_5 (dk_at dksX9_noLay_0 9 rfl rfl)
theorem dX9_noLay_10 : decode cX9_noLay 10 = .ok (.goto 22, 3) := dk_167 0 22 (dk_at dksX9_noLay_0 10 rfl rfl)
theorem dX9_noLay_13 : decode cX9_noLay 13 = .ok (.aload_n 0, 1) := dk_42 (dk_at dksX9_noLay_0 13 rfl rfl)
theorem dX9_noLay_14 : decode cX9_noLay 14 = .ok (.aload_n 0, 1) := dk_42 (dk_at dksX9_noLay_0 14 rfl rfl)
theorem dX9_noLay_15 : decode cX9_noLay 15 = .ok (.iload_n 1, 1) := dk_27 (dk_at dksX9_noLay_0 15 rfl rfl)
theorem dX9_noLay_16 : decode cX9_noLay 16 = .ok (.iload_n 2, 1) := dk_28 (dk_at dksX9_noLay_0 16 rfl rfl)
theorem dX9_noLay_17 : decode cX9_noLay 17 = .ok (.invokevirtual 102, 3) := dk_182 0 102 (dk_at dksX9_noLay_0 17 rfl rfl)
theorem dX9_noLay_20 : decode cX9_noLay 20 = .ok (.iconst 0, 1) := dk_3 (dk_at dksX9_noLay_0 20 rfl rfl)
theorem dX9_noLay_21 : decode cX9_noLay 21 = .ok (.invokevirtual 106, 3) := dk_182 0 106 (dk_at dksX9_noLay_0 21 rfl rfl)
theorem dX9_noLay_24 : decode cX9_noLay 24 = .ok (.ifCond .eq 7, 3) := dk_153 0 7 (dk_at dksX9_noLay_1 0 rfl rfl)
theorem dX9_noLay_27 : decode cX9_noLay 27 = .ok (.iconst 3, 1) := dk_6 (dk_at dksX9_noLay_1 3 rfl rfl)
theorem dX9_noLay_28 : decode cX9_noLay 28 = .ok (.goto 4, 3) := dk_167 0 4 (dk_at dksX9_noLay_1 4 rfl rfl)
theorem dX9_noLay_31 : decode cX9_noLay 31 = .ok (.iconst 0, 1) := dk_3 (dk_at dksX9_noLay_1 7 rfl rfl)
theorem dX9_noLay_32 : decode cX9_noLay 32 = .ok (.ireturn, 1) := dk_172 (dk_at dksX9_noLay_1 8 rfl rfl)
abbrev cX9_change : ByteArray := prog_15_method_43_code
def yX9_change : MethodName := ⟨RX9, "change", "(IIIII)I"⟩
def dkwX9_change_1 : List UInt8 := [42, 3, 182, 0, 161, 172]
abbrev dktX9_change_1 : List UInt8 := dkwX9_change_1 ++ []
def dkwX9_change_0 : List UInt8 := [42, 42, 180, 0, 9, 182, 0, 187, 42, 27, 28, 29, 21, 4, 21, 5, 182, 0, 75, 42, 182, 0, 79, 87]
abbrev dktX9_change_0 : List UInt8 := dkwX9_change_0 ++ dktX9_change_1
theorem dksX9_change_0 : cX9_change.data.toList.drop 0 = dktX9_change_0 := by decide +kernel
theorem dksX9_change_1 : cX9_change.data.toList.drop 24 = dktX9_change_1 := dk_seg dksX9_change_0 24 rfl rfl
theorem dX9_change_0 : decode cX9_change 0 = .ok (.aload_n 0, 1) := dk_42 (dk_at dksX9_change_0 0 rfl rfl)
theorem dX9_change_1 : decode cX9_change 1 = .ok (.aload_n 0, 1) := dk_42 (dk_at dksX9_change_0 1 rfl rfl)
theorem dX9_change_2 : decode cX9_change 2 = .ok (.getfield 9, 3) := dk_180 0 9 (dk_at dksX9_change_0 2 rfl rfl)
theorem dX9_change_5 : decode cX9_change 5 = .ok (.invokevirtual 187, 3) := dk_182 0 187 (dk_at dksX9_change_0 5 rfl rfl)
theorem dX9_change_8 : decode cX9_change 8 = .ok (.aload_n 0, 1) := dk_42 (dk_at dksX9_change_0 8 rfl rfl)
theorem dX9_change_9 : decode cX9_change 9 = .ok (.iload_n 1, 1) := dk_27 (dk_at dksX9_change_0 9 rfl rfl)
theorem dX9_change_10 : decode cX9_change 10 = .ok (.iload_n 2, 1) := dk_28 (dk_at dksX9_change_0 10 rfl rfl)
theorem dX9_change_11 : decode cX9_change 11 = .ok (.iload_n 3, 1) := dk_29 (dk_at dksX9_change_0 11 rfl rfl)
theorem dX9_change_12 : decode cX9_change 12 = .ok (.iload 4, 2) := dk_21 4 (dk_at dksX9_change_0 12 rfl rfl)
theorem dX9_change_14 : decode cX9_change 14 = .ok (.iload 5, 2) := dk_21 5 (dk_at dksX9_change_0 14 rfl rfl)
theorem dX9_change_16 : decode cX9_change 16 = .ok (.invokevirtual 75, 3) := dk_182 0 75 (dk_at dksX9_change_0 16 rfl rfl)
theorem dX9_change_19 : decode cX9_change 19 = .ok (.aload_n 0, 1) := dk_42 (dk_at dksX9_change_0 19 rfl rfl)
theorem dX9_change_20 : decode cX9_change 20 = .ok (.invokevirtual 79, 3) := dk_182 0 79 (dk_at dksX9_change_0 20 rfl rfl)
theorem dX9_change_23 : decode cX9_change 23 = .ok (.pop, 1) := dk_87 (dk_at dksX9_change_0 23 rfl rfl)
theorem dX9_change_24 : decode cX9_change 24 = .ok (.aload_n 0, 1) := dk_42 (dk_at dksX9_change_1 0 rfl rfl)
theorem dX9_change_25 : decode cX9_change 25 = .ok (.iconst 0, 1) := dk_3 (dk_at dksX9_change_1 1 rfl rfl)
theorem dX9_change_26 : decode cX9_change 26 = .ok (.invokevirtual 161, 3) := dk_182 0 161 (dk_at dksX9_change_1 2 rfl rfl)
theorem dX9_change_29 : decode cX9_change 29 = .ok (.ireturn, 1) := dk_172 (dk_at dksX9_change_1 5 rfl rfl)
abbrev cX9_keepPast : ByteArray := prog_15_method_5_code
def yX9_keepPast : MethodName := ⟨RX9, "keepPast", "([I)V"⟩
def dkwX9_keepPast_3 : List UInt8 := [184, 0, 94, 42, 89, 180, 0, 91, 4, 96, 181, 0, 91, 177]
abbrev dktX9_keepPast_3 : List UInt8 := dkwX9_keepPast_3 ++ []
def dkwX9_keepPast_2 : List UInt8 := [16, 9, 44, 83, 42, 89, 180, 0, 91, 4, 100, 181, 0, 91, 43, 42, 180, 0, 15, 42, 180, 0, 91, 50]
abbrev dktX9_keepPast_2 : List UInt8 := dkwX9_keepPast_2 ++ dktX9_keepPast_3
def dkwX9_keepPast_1 : List UInt8 := [42, 180, 0, 15, 29, 4, 100, 42, 180, 0, 15, 29, 50, 83, 132, 3, 1, 167, 255, 233, 42, 180, 0, 15]
abbrev dktX9_keepPast_1 : List UInt8 := dkwX9_keepPast_1 ++ dktX9_keepPast_2
def dkwX9_keepPast_0 : List UInt8 := [42, 180, 0, 91, 16, 10, 160, 0, 56, 42, 180, 0, 15, 3, 50, 77, 4, 62, 29, 16, 10, 162, 0, 23]
abbrev dktX9_keepPast_0 : List UInt8 := dkwX9_keepPast_0 ++ dktX9_keepPast_1
theorem dksX9_keepPast_0 : cX9_keepPast.data.toList.drop 0 = dktX9_keepPast_0 := by decide +kernel
theorem dksX9_keepPast_1 : cX9_keepPast.data.toList.drop 24 = dktX9_keepPast_1 := dk_seg dksX9_keepPast_0 24 rfl rfl
theorem dksX9_keepPast_2 : cX9_keepPast.data.toList.drop 48 = dktX9_keepPast_2 := dk_seg dksX9_keepPast_1 24 rfl rfl
theorem dksX9_keepPast_3 : cX9_keepPast.data.toList.drop 72 = dktX9_keepPast_3 := dk_seg dksX9_keepPast_2 24 rfl rfl
theorem dX9_keepPast_0 : decode cX9_keepPast 0 = .ok (.aload_n 0, 1) := dk_42 (dk_at dksX9_keepPast_0 0 rfl rfl)
theorem dX9_keepPast_1 : decode cX9_keepPast 1 = .ok (.getfield 91, 3) := dk_180 0 91 (dk_at dksX9_keepPast_0 1 rfl rfl)
theorem dX9_keepPast_4 : decode cX9_keepPast 4 = .ok (.bipush 10, 2) := dk_16 10 (dk_at dksX9_keepPast_0 4 rfl rfl)
theorem dX9_keepPast_6 : decode cX9_keepPast 6 = .ok (.if_icmp .ne 56, 3) := dk_160 0 56 (dk_at dksX9_keepPast_0 6 rfl rfl)
theorem dX9_keepPast_9 : decode cX9_keepPast 9 = .ok (.aload_n 0, 1) := dk_42 (dk_at dksX9_keepPast_0 9 rfl rfl)
theorem dX9_keepPast_10 : decode cX9_keepPast 10 = .ok (.getfield 15, 3) := dk_180 0 15 (dk_at dksX9_keepPast_0 10 rfl rfl)
theorem dX9_keepPast_13 : decode cX9_keepPast 13 = .ok (.iconst 0, 1) := dk_3 (dk_at dksX9_keepPast_0 13 rfl rfl)
theorem dX9_keepPast_14 : decode cX9_keepPast 14 = .ok (.aaload, 1) := dk_50 (dk_at dksX9_keepPast_0 14 rfl rfl)
theorem dX9_keepPast_15 : decode cX9_keepPast 15 = .ok (.astore_n 2, 1) := dk_77 (dk_at dksX9_keepPast_0 15 rfl rfl)
theorem dX9_keepPast_16 : decode cX9_keepPast 16 = .ok (.iconst 1, 1) := dk_4 (dk_at dksX9_keepPast_0 16 rfl rfl)
theorem dX9_keepPast_17 : decode cX9_keepPast 17 = .ok (.istore_n 3, 1) := dk_62 (dk_at dksX9_keepPast_0 17 rfl rfl)
theorem dX9_keepPast_18 : decode cX9_keepPast 18 = .ok (.iload_n 3, 1) := dk_29 (dk_at dksX9_keepPast_0 18 rfl rfl)
theorem dX9_keepPast_19 : decode cX9_keepPast 19 = .ok (.bipush 10, 2) := dk_16 10 (dk_at dksX9_keepPast_0 19 rfl rfl)
theorem dX9_keepPast_21 : decode cX9_keepPast 21 = .ok (.if_icmp .ge 23, 3) := dk_162 0 23 (dk_at dksX9_keepPast_0 21 rfl rfl)
theorem dX9_keepPast_24 : decode cX9_keepPast 24 = .ok (.aload_n 0, 1) := dk_42 (dk_at dksX9_keepPast_1 0 rfl rfl)
theorem dX9_keepPast_25 : decode cX9_keepPast 25 = .ok (.getfield 15, 3) := dk_180 0 15 (dk_at dksX9_keepPast_1 1 rfl rfl)
theorem dX9_keepPast_28 : decode cX9_keepPast 28 = .ok (.iload_n 3, 1) := dk_29 (dk_at dksX9_keepPast_1 4 rfl rfl)
theorem dX9_keepPast_29 : decode cX9_keepPast 29 = .ok (.iconst 1, 1) := dk_4 (dk_at dksX9_keepPast_1 5 rfl rfl)
theorem dX9_keepPast_30 : decode cX9_keepPast 30 = .ok (.isub, 1) := dk_100 (dk_at dksX9_keepPast_1 6 rfl rfl)
theorem dX9_keepPast_31 : decode cX9_keepPast 31 = .ok (.aload_n 0, 1) := dk_42 (dk_at dksX9_keepPast_1 7 rfl rfl)
theorem dX9_keepPast_32 : decode cX9_keepPast 32 = .ok (.getfield 15, 3) := dk_180 0 15 (dk_at dksX9_keepPast_1 8 rfl rfl)
theorem dX9_keepPast_35 : decode cX9_keepPast 35 = .ok (.iload_n 3, 1) := dk_29 (dk_at dksX9_keepPast_1 11 rfl rfl)
theorem dX9_keepPast_36 : decode cX9_keepPast 36 = .ok (.aaload, 1) := dk_50 (dk_at dksX9_keepPast_1 12 rfl rfl)
theorem dX9_keepPast_37 : decode cX9_keepPast 37 = .ok (.aastore, 1) := dk_83 (dk_at dksX9_keepPast_1 13 rfl rfl)
theorem dX9_keepPast_38 : decode cX9_keepPast 38 = .ok (.iinc 3 1, 3) := dk_132 3 1 (dk_at dksX9_keepPast_1 14 rfl rfl)
theorem dX9_keepPast_41 : decode cX9_keepPast 41 = .ok (.goto (-23), 3) := dk_167 255 233 (dk_at dksX9_keepPast_1 17 rfl rfl)
theorem dX9_keepPast_44 : decode cX9_keepPast 44 = .ok (.aload_n 0, 1) := dk_42 (dk_at dksX9_keepPast_1 20 rfl rfl)
theorem dX9_keepPast_45 : decode cX9_keepPast 45 = .ok (.getfield 15, 3) := dk_180 0 15 (dk_at dksX9_keepPast_1 21 rfl rfl)
theorem dX9_keepPast_48 : decode cX9_keepPast 48 = .ok (.bipush 9, 2) := dk_16 9 (dk_at dksX9_keepPast_2 0 rfl rfl)
theorem dX9_keepPast_50 : decode cX9_keepPast 50 = .ok (.aload_n 2, 1) := dk_44 (dk_at dksX9_keepPast_2 2 rfl rfl)
theorem dX9_keepPast_51 : decode cX9_keepPast 51 = .ok (.aastore, 1) := dk_83 (dk_at dksX9_keepPast_2 3 rfl rfl)
theorem dX9_keepPast_52 : decode cX9_keepPast 52 = .ok (.aload_n 0, 1) := dk_42 (dk_at dksX9_keepPast_2 4 rfl rfl)
theorem dX9_keepPast_53 : decode cX9_keepPast 53 = .ok (.dup, 1) := dk_89 (dk_at dksX9_keepPast_2 5 rfl rfl)
theorem dX9_keepPast_54 : decode cX9_keepPast 54 = .ok (.getfield 91, 3) := dk_180 0 91 (dk_at dksX9_keepPast_2 6 rfl rfl)
theorem dX9_keepPast_57 : decode cX9_keepPast 57 = .ok (.iconst 1, 1) := dk_4 (dk_at dksX9_keepPast_2 9 rfl rfl)
theorem dX9_keepPast_58 : decode cX9_keepPast 58 = .ok (.isub, 1) := dk_100 (dk_at dksX9_keepPast_2 10 rfl rfl)
theorem dX9_keepPast_59 : decode cX9_keepPast 59 = .ok (.putfield 91, 3) := dk_181 0 91 (dk_at dksX9_keepPast_2 11 rfl rfl)
theorem dX9_keepPast_62 : decode cX9_keepPast 62 = .ok (.aload_n 1, 1) := dk_43 (dk_at dksX9_keepPast_2 14 rfl rfl)
theorem dX9_keepPast_63 : decode cX9_keepPast 63 = .ok (.aload_n 0, 1) := dk_42 (dk_at dksX9_keepPast_2 15 rfl rfl)
theorem dX9_keepPast_64 : decode cX9_keepPast 64 = .ok (.getfield 15, 3) := dk_180 0 15 (dk_at dksX9_keepPast_2 16 rfl rfl)
theorem dX9_keepPast_67 : decode cX9_keepPast 67 = .ok (.aload_n 0, 1) := dk_42 (dk_at dksX9_keepPast_2 19 rfl rfl)
theorem dX9_keepPast_68 : decode cX9_keepPast 68 = .ok (.getfield 91, 3) := dk_180 0 91 (dk_at dksX9_keepPast_2 20 rfl rfl)
theorem dX9_keepPast_71 : decode cX9_keepPast 71 = .ok (.aaload, 1) := dk_50 (dk_at dksX9_keepPast_2 23 rfl rfl)
theorem dX9_keepPast_72 : decode cX9_keepPast 72 = .ok (.invokestatic 94, 3) := dk_184 0 94 (dk_at dksX9_keepPast_3 0 rfl rfl)
theorem dX9_keepPast_75 : decode cX9_keepPast 75 = .ok (.aload_n 0, 1) := dk_42 (dk_at dksX9_keepPast_3 3 rfl rfl)
theorem dX9_keepPast_76 : decode cX9_keepPast 76 = .ok (.dup, 1) := dk_89 (dk_at dksX9_keepPast_3 4 rfl rfl)
theorem dX9_keepPast_77 : decode cX9_keepPast 77 = .ok (.getfield 91, 3) := dk_180 0 91 (dk_at dksX9_keepPast_3 5 rfl rfl)
theorem dX9_keepPast_80 : decode cX9_keepPast 80 = .ok (.iconst 1, 1) := dk_4 (dk_at dksX9_keepPast_3 8 rfl rfl)
theorem dX9_keepPast_81 : decode cX9_keepPast 81 = .ok (.iadd, 1) := dk_96 (dk_at dksX9_keepPast_3 9 rfl rfl)
theorem dX9_keepPast_82 : decode cX9_keepPast 82 = .ok (.putfield 91, 3) := dk_181 0 91 (dk_at dksX9_keepPast_3 10 rfl rfl)
theorem dX9_keepPast_85 : decode cX9_keepPast 85 = .ok (.return_, 1) := dk_177 (dk_at dksX9_keepPast_3 13 rfl rfl)
abbrev cX9_copy : ByteArray := prog_15_method_3_code
def yX9_copy : MethodName := ⟨RX9, "copy", "([I[I)V"⟩
def dkwX9_copy_0 : List UInt8 := [3, 61, 28, 17, 2, 94, 162, 0, 15, 43, 28, 42, 28, 46, 79, 132, 2, 1, 167, 255, 240, 177]
abbrev dktX9_copy_0 : List UInt8 := dkwX9_copy_0 ++ []
theorem dksX9_copy_0 : cX9_copy.data.toList.drop 0 = dktX9_copy_0 := by decide +kernel
theorem dX9_copy_0 : decode cX9_copy 0 = .ok (.iconst 0, 1) := dk_3 (dk_at dksX9_copy_0 0 rfl rfl)
theorem dX9_copy_1 : decode cX9_copy 1 = .ok (.istore_n 2, 1) := dk_61 (dk_at dksX9_copy_0 1 rfl rfl)
theorem dX9_copy_2 : decode cX9_copy 2 = .ok (.iload_n 2, 1) := dk_28 (dk_at dksX9_copy_0 2 rfl rfl)
theorem dX9_copy_3 : decode cX9_copy 3 = .ok (.sipush 606, 3) := dk_17 2 94 (dk_at dksX9_copy_0 3 rfl rfl)
theorem dX9_copy_6 : decode cX9_copy 6 = .ok (.if_icmp .ge 15, 3) := dk_162 0 15 (dk_at dksX9_copy_0 6 rfl rfl)
theorem dX9_copy_9 : decode cX9_copy 9 = .ok (.aload_n 1, 1) := dk_43 (dk_at dksX9_copy_0 9 rfl rfl)
theorem dX9_copy_10 : decode cX9_copy 10 = .ok (.iload_n 2, 1) := dk_28 (dk_at dksX9_copy_0 10 rfl rfl)
theorem dX9_copy_11 : decode cX9_copy 11 = .ok (.aload_n 0, 1) := dk_42 (dk_at dksX9_copy_0 11 rfl rfl)
theorem dX9_copy_12 : decode cX9_copy 12 = .ok (.iload_n 2, 1) := dk_28 (dk_at dksX9_copy_0 12 rfl rfl)
theorem dX9_copy_13 : decode cX9_copy 13 = .ok (.iaload, 1) := dk_46 (dk_at dksX9_copy_0 13 rfl rfl)
theorem dX9_copy_14 : decode cX9_copy 14 = .ok (.iastore, 1) := dk_79 (dk_at dksX9_copy_0 14 rfl rfl)
theorem dX9_copy_15 : decode cX9_copy 15 = .ok (.iinc 2 1, 3) := dk_132 2 1 (dk_at dksX9_copy_0 15 rfl rfl)
theorem dX9_copy_18 : decode cX9_copy 18 = .ok (.goto (-16), 3) := dk_167 255 240 (dk_at dksX9_copy_0 18 rfl rfl)
theorem dX9_copy_21 : decode cX9_copy 21 = .ok (.return_, 1) := dk_177 (dk_at dksX9_copy_0 21 rfl rfl)
abbrev cX9_putMirror : ByteArray := prog_15_method_45_code
def yX9_putMirror : MethodName := ⟨RX9, "putMirror", "(IIZII)I"⟩
def dkwX9_putMirror_4 : List UInt8 := [182, 0, 102, 5, 182, 0, 205, 172]
abbrev dktX9_putMirror_4 : List UInt8 := dkwX9_putMirror_4 ++ []
def dkwX9_putMirror_3 : List UInt8 := [42, 27, 28, 29, 153, 0, 7, 6, 167, 0, 4, 5, 21, 4, 21, 5, 182, 0, 197, 87, 42, 42, 27, 28]
abbrev dktX9_putMirror_3 : List UInt8 := dkwX9_putMirror_3 ++ dktX9_putMirror_4
def dkwX9_putMirror_2 : List UInt8 := [54, 6, 21, 6, 153, 0, 7, 21, 6, 116, 172, 42, 5, 182, 0, 161, 16, 12, 160, 0, 6, 16, 252, 172]
abbrev dktX9_putMirror_2 : List UInt8 := dkwX9_putMirror_2 ++ dktX9_putMirror_3
def dkwX9_putMirror_1 : List UInt8 := [154, 0, 15, 42, 21, 5, 3, 5, 5, 182, 0, 201, 153, 0, 5, 3, 172, 42, 27, 28, 182, 0, 194]
abbrev dktX9_putMirror_1 : List UInt8 := dkwX9_putMirror_1 ++ dktX9_putMirror_2
def dkwX9_putMirror_0 : List UInt8 := [42, 3, 181, 0, 83, 42, 27, 28, 182, 0, 191, 154, 0, 27, 42, 21, 4, 3, 4, 5, 182, 0, 201]
abbrev dktX9_putMirror_0 : List UInt8 := dkwX9_putMirror_0 ++ dktX9_putMirror_1
theorem dksX9_putMirror_0 : cX9_putMirror.data.toList.drop 0 = dktX9_putMirror_0 := by decide +kernel
theorem dksX9_putMirror_1 : cX9_putMirror.data.toList.drop 23 = dktX9_putMirror_1 := dk_seg dksX9_putMirror_0 23 rfl rfl
theorem dksX9_putMirror_2 : cX9_putMirror.data.toList.drop 46 = dktX9_putMirror_2 := dk_seg dksX9_putMirror_1 23 rfl rfl
theorem dksX9_putMirror_3 : cX9_putMirror.data.toList.drop 70 = dktX9_putMirror_3 := dk_seg dksX9_putMirror_2 24 rfl rfl
theorem dksX9_putMirror_4 : cX9_putMirror.data.toList.drop 94 = dktX9_putMirror_4 := dk_seg dksX9_putMirror_3 24 rfl rfl
theorem dX9_putMirror_0 : decode cX9_putMirror 0 = .ok (.aload_n 0, 1) := dk_42 (dk_at dksX9_putMirror_0 0 rfl rfl)
theorem dX9_putMirror_1 : decode cX9_putMirror 1 = .ok (.iconst 0, 1) := dk_3 (dk_at dksX9_putMirror_0 1 rfl rfl)
theorem dX9_putMirror_2 : decode cX9_putMirror 2 = .ok (.putfield 83, 3) := dk_181 0 83 (dk_at dksX9_putMirror_0 2 rfl rfl)
theorem dX9_putMirror_5 : decode cX9_putMirror 5 = .ok (.aload_n 0, 1) := dk_42 (dk_at dksX9_putMirror_0 5 rfl rfl)
theorem dX9_putMirror_6 : decode cX9_putMirror 6 = .ok (.iload_n 1, 1) := dk_27 (dk_at dksX9_putMirror_0 6 rfl rfl)
theorem dX9_putMirror_7 : decode cX9_putMirror 7 = .ok (.iload_n 2, 1) := dk_28 (dk_at dksX9_putMirror_0 7 rfl rfl)
theorem dX9_putMirror_8 : decode cX9_putMirror 8 = .ok (.invokevirtual 191, 3) := dk_182 0 191 (dk_at dksX9_putMirror_0 8 rfl rfl)
theorem dX9_putMirror_11 : decode cX9_putMirror 11 = .ok (.ifCond .ne 27, 3) := dk_154 0 27 (dk_at dksX9_putMirror_0 11 rfl rfl)
theorem dX9_putMirror_14 : decode cX9_putMirror 14 = .ok (.aload_n 0, 1) := dk_42 (dk_at dksX9_putMirror_0 14 rfl rfl)
theorem dX9_putMirror_15 : decode cX9_putMirror 15 = .ok (.iload 4, 2) := dk_21 4 (dk_at dksX9_putMirror_0 15 rfl rfl)
theorem dX9_putMirror_17 : decode cX9_putMirror 17 = .ok (.iconst 0, 1) := dk_3 (dk_at dksX9_putMirror_0 17 rfl rfl)
theorem dX9_putMirror_18 : decode cX9_putMirror 18 = .ok (.iconst 1, 1) := dk_4 (dk_at dksX9_putMirror_0 18 rfl rfl)
theorem dX9_putMirror_19 : decode cX9_putMirror 19 = .ok (.iconst 2, 1) := dk_5 (dk_at dksX9_putMirror_0 19 rfl rfl)
theorem dX9_putMirror_20 : decode cX9_putMirror 20 = .ok (.invokevirtual 201, 3) := dk_182 0 201 (dk_at dksX9_putMirror_0 20 rfl rfl)
theorem dX9_putMirror_23 : decode cX9_putMirror 23 = .ok (.ifCond .ne 15, 3) := dk_154 0 15 (dk_at dksX9_putMirror_1 0 rfl rfl)
theorem dX9_putMirror_26 : decode cX9_putMirror 26 = .ok (.aload_n 0, 1) := dk_42 (dk_at dksX9_putMirror_1 3 rfl rfl)
theorem dX9_putMirror_27 : decode cX9_putMirror 27 = .ok (.iload 5, 2) := dk_21 5 (dk_at dksX9_putMirror_1 4 rfl rfl)
theorem dX9_putMirror_29 : decode cX9_putMirror 29 = .ok (.iconst 0, 1) := dk_3 (dk_at dksX9_putMirror_1 6 rfl rfl)
theorem dX9_putMirror_30 : decode cX9_putMirror 30 = .ok (.iconst 2, 1) := dk_5 (dk_at dksX9_putMirror_1 7 rfl rfl)
theorem dX9_putMirror_31 : decode cX9_putMirror 31 = .ok (.iconst 2, 1) := dk_5 (dk_at dksX9_putMirror_1 8 rfl rfl)
theorem dX9_putMirror_32 : decode cX9_putMirror 32 = .ok (.invokevirtual 201, 3) := dk_182 0 201 (dk_at dksX9_putMirror_1 9 rfl rfl)
theorem dX9_putMirror_35 : decode cX9_putMirror 35 = .ok (.ifCond .eq 5, 3) := dk_153 0 5 (dk_at dksX9_putMirror_1 12 rfl rfl)
theorem dX9_putMirror_38 : decode cX9_putMirror 38 = .ok (.iconst 0, 1) := dk_3 (dk_at dksX9_putMirror_1 15 rfl rfl)
theorem dX9_putMirror_39 : decode cX9_putMirror 39 = .ok (.ireturn, 1) := dk_172 (dk_at dksX9_putMirror_1 16 rfl rfl)
theorem dX9_putMirror_40 : decode cX9_putMirror 40 = .ok (.aload_n 0, 1) := dk_42 (dk_at dksX9_putMirror_1 17 rfl rfl)
theorem dX9_putMirror_41 : decode cX9_putMirror 41 = .ok (.iload_n 1, 1) := dk_27 (dk_at dksX9_putMirror_1 18 rfl rfl)
theorem dX9_putMirror_42 : decode cX9_putMirror 42 = .ok (.iload_n 2, 1) := dk_28 (dk_at dksX9_putMirror_1 19 rfl rfl)
theorem dX9_putMirror_43 : decode cX9_putMirror 43 = .ok (.invokevirtual 194, 3) := dk_182 0 194 (dk_at dksX9_putMirror_1 20 rfl rfl)
theorem dX9_putMirror_46 : decode cX9_putMirror 46 = .ok (.istore 6, 2) := dk_54 6 (dk_at dksX9_putMirror_2 0 rfl rfl)
theorem dX9_putMirror_48 : decode cX9_putMirror 48 = .ok (.iload 6, 2) := dk_21 6 (dk_at dksX9_putMirror_2 2 rfl rfl)
theorem dX9_putMirror_50 : decode cX9_putMirror 50 = .ok (.ifCond .eq 7, 3) := dk_153 0 7 (dk_at dksX9_putMirror_2 4 rfl rfl)
theorem dX9_putMirror_53 : decode cX9_putMirror 53 = .ok (.iload 6, 2) := dk_21 6 (dk_at dksX9_putMirror_2 7 rfl rfl)
theorem dX9_putMirror_55 : decode cX9_putMirror 55 = .ok (.ineg, 1) := dk_116 (dk_at dksX9_putMirror_2 9 rfl rfl)
theorem dX9_putMirror_56 : decode cX9_putMirror 56 = .ok (.ireturn, 1) := dk_172 (dk_at dksX9_putMirror_2 10 rfl rfl)
theorem dX9_putMirror_57 : decode cX9_putMirror 57 = .ok (.aload_n 0, 1) := dk_42 (dk_at dksX9_putMirror_2 11 rfl rfl)
theorem dX9_putMirror_58 : decode cX9_putMirror 58 = .ok (.iconst 2, 1) := dk_5 (dk_at dksX9_putMirror_2 12 rfl rfl)
theorem dX9_putMirror_59 : decode cX9_putMirror 59 = .ok (.invokevirtual 161, 3) := dk_182 0 161 (dk_at dksX9_putMirror_2 13 rfl rfl)
theorem dX9_putMirror_62 : decode cX9_putMirror 62 = .ok (.bipush 12, 2) := dk_16 12 (dk_at dksX9_putMirror_2 16 rfl rfl)
theorem dX9_putMirror_64 : decode cX9_putMirror 64 = .ok (.if_icmp .ne 6, 3) := dk_160 0 6 (dk_at dksX9_putMirror_2 18 rfl rfl)
theorem dX9_putMirror_67 : decode cX9_putMirror 67 = .ok (.bipush (-4), 2) := dk_16 252 (dk_at dksX9_putMirror_2 21 rfl rfl)
theorem dX9_putMirror_69 : decode cX9_putMirror 69 = .ok (.ireturn, 1) := dk_172 (dk_at dksX9_putMirror_2 23 rfl rfl)
theorem dX9_putMirror_70 : decode cX9_putMirror 70 = .ok (.aload_n 0, 1) := dk_42 (dk_at dksX9_putMirror_3 0 rfl rfl)
theorem dX9_putMirror_71 : decode cX9_putMirror 71 = .ok (.iload_n 1, 1) := dk_27 (dk_at dksX9_putMirror_3 1 rfl rfl)
theorem dX9_putMirror_72 : decode cX9_putMirror 72 = .ok (.iload_n 2, 1) := dk_28 (dk_at dksX9_putMirror_3 2 rfl rfl)
theorem dX9_putMirror_73 : decode cX9_putMirror 73 = .ok (.iload_n 3, 1) := dk_29 (dk_at dksX9_putMirror_3 3 rfl rfl)
theorem dX9_putMirror_74 : decode cX9_putMirror 74 = .ok (.ifCond .eq 7, 3) := dk_153 0 7 (dk_at dksX9_putMirror_3 4 rfl rfl)
theorem dX9_putMirror_77 : decode cX9_putMirror 77 = .ok (.iconst 3, 1) := dk_6 (dk_at dksX9_putMirror_3 7 rfl rfl)
theorem dX9_putMirror_78 : decode cX9_putMirror 78 = .ok (.goto 4, 3) := dk_167 0 4 (dk_at dksX9_putMirror_3 8 rfl rfl)
theorem dX9_putMirror_81 : decode cX9_putMirror 81 = .ok (.iconst 2, 1) := dk_5 (dk_at dksX9_putMirror_3 11 rfl rfl)
theorem dX9_putMirror_82 : decode cX9_putMirror 82 = .ok (.iload 4, 2) := dk_21 4 (dk_at dksX9_putMirror_3 12 rfl rfl)
theorem dX9_putMirror_84 : decode cX9_putMirror 84 = .ok (.iload 5, 2) := dk_21 5 (dk_at dksX9_putMirror_3 14 rfl rfl)
theorem dX9_putMirror_86 : decode cX9_putMirror 86 = .ok (.invokevirtual 197, 3) := dk_182 0 197 (dk_at dksX9_putMirror_3 16 rfl rfl)
theorem dX9_putMirror_89 : decode cX9_putMirror 89 = .ok (.pop, 1) := dk_87 (dk_at dksX9_putMirror_3 19 rfl rfl)
theorem dX9_putMirror_90 : decode cX9_putMirror 90 = .ok (.aload_n 0, 1) := dk_42 (dk_at dksX9_putMirror_3 20 rfl rfl)
theorem dX9_putMirror_91 : decode cX9_putMirror 91 = .ok (.aload_n 0, 1) := dk_42 (dk_at dksX9_putMirror_3 21 rfl rfl)
theorem dX9_putMirror_92 : decode cX9_putMirror 92 = .ok (.iload_n 1, 1) := dk_27 (dk_at dksX9_putMirror_3 22 rfl rfl)
theorem dX9_putMirror_93 : decode cX9_putMirror 93 = .ok (.iload_n 2, 1) := dk_28 (dk_at dksX9_putMirror_3 23 rfl rfl)
theorem dX9_putMirror_94 : decode cX9_putMirror 94 = .ok (.invokevirtual 102, 3) := dk_182 0 102 (dk_at dksX9_putMirror_4 0 rfl rfl)
theorem dX9_putMirror_97 : decode cX9_putMirror 97 = .ok (.iconst 2, 1) := dk_5 (dk_at dksX9_putMirror_4 3 rfl rfl)
theorem dX9_putMirror_98 : decode cX9_putMirror 98 = .ok (.invokevirtual 205, 3) := dk_182 0 205 (dk_at dksX9_putMirror_4 4 rfl rfl)
theorem dX9_putMirror_101 : decode cX9_putMirror 101 = .ok (.ireturn, 1) := dk_172 (dk_at dksX9_putMirror_4 7 rfl rfl)
abbrev cX9_bad : ByteArray := prog_15_method_40_code
def yX9_bad : MethodName := ⟨RX9, "bad", "(IIII)Z"⟩
def dkwX9_bad_0 : List UInt8 := [27, 28, 161, 0, 8, 27, 29, 164, 0, 11, 42, 21, 4, 181, 0, 83, 4, 172, 3, 172]
abbrev dktX9_bad_0 : List UInt8 := dkwX9_bad_0 ++ []
theorem dksX9_bad_0 : cX9_bad.data.toList.drop 0 = dktX9_bad_0 := by decide +kernel
theorem dX9_bad_0 : decode cX9_bad 0 = .ok (.iload_n 1, 1) := dk_27 (dk_at dksX9_bad_0 0 rfl rfl)
theorem dX9_bad_1 : decode cX9_bad 1 = .ok (.iload_n 2, 1) := dk_28 (dk_at dksX9_bad_0 1 rfl rfl)
theorem dX9_bad_2 : decode cX9_bad 2 = .ok (.if_icmp .lt 8, 3) := dk_161 0 8 (dk_at dksX9_bad_0 2 rfl rfl)
theorem dX9_bad_5 : decode cX9_bad 5 = .ok (.iload_n 1, 1) := dk_27 (dk_at dksX9_bad_0 5 rfl rfl)
theorem dX9_bad_6 : decode cX9_bad 6 = .ok (.iload_n 3, 1) := dk_29 (dk_at dksX9_bad_0 6 rfl rfl)
theorem dX9_bad_7 : decode cX9_bad 7 = .ok (.if_icmp .le 11, 3) := dk_164 0 11 (dk_at dksX9_bad_0 7 rfl rfl)
theorem dX9_bad_10 : decode cX9_bad 10 = .ok (.aload_n 0, 1) := dk_42 (dk_at dksX9_bad_0 10 rfl rfl)
theorem dX9_bad_11 : decode cX9_bad 11 = .ok (.iload 4, 2) := dk_21 4 (dk_at dksX9_bad_0 11 rfl rfl)
theorem dX9_bad_13 : decode cX9_bad 13 = .ok (.putfield 83, 3) := dk_181 0 83 (dk_at dksX9_bad_0 13 rfl rfl)
theorem dX9_bad_16 : decode cX9_bad 16 = .ok (.iconst 1, 1) := dk_4 (dk_at dksX9_bad_0 16 rfl rfl)
theorem dX9_bad_17 : decode cX9_bad 17 = .ok (.ireturn, 1) := dk_172 (dk_at dksX9_bad_0 17 rfl rfl)
theorem dX9_bad_18 : decode cX9_bad 18 = .ok (.iconst 0, 1) := dk_3 (dk_at dksX9_bad_0 18 rfl rfl)
theorem dX9_bad_19 : decode cX9_bad 19 = .ok (.ireturn, 1) := dk_172 (dk_at dksX9_bad_0 19 rfl rfl)
abbrev cX9_numberOf : ByteArray := prog_15_method_17_code
def yX9_numberOf : MethodName := ⟨RX9, "numberOf", "(II)I"⟩
def dkwX9_numberOf_1 : List UInt8 := [167, 0, 4, 3, 96, 62, 132, 4, 1, 167, 255, 229, 29, 172]
abbrev dktX9_numberOf_1 : List UInt8 := dkwX9_numberOf_1 ++ []
def dkwX9_numberOf_0 : List UInt8 := [3, 62, 3, 54, 4, 21, 4, 27, 162, 0, 27, 29, 42, 21, 4, 28, 182, 0, 116, 153, 0, 7, 4]
abbrev dktX9_numberOf_0 : List UInt8 := dkwX9_numberOf_0 ++ dktX9_numberOf_1
theorem dksX9_numberOf_0 : cX9_numberOf.data.toList.drop 0 = dktX9_numberOf_0 := by decide +kernel
theorem dksX9_numberOf_1 : cX9_numberOf.data.toList.drop 23 = dktX9_numberOf_1 := dk_seg dksX9_numberOf_0 23 rfl rfl
theorem dX9_numberOf_0 : decode cX9_numberOf 0 = .ok (.iconst 0, 1) := dk_3 (dk_at dksX9_numberOf_0 0 rfl rfl)
theorem dX9_numberOf_1 : decode cX9_numberOf 1 = .ok (.istore_n 3, 1) := dk_62 (dk_at dksX9_numberOf_0 1 rfl rfl)
theorem dX9_numberOf_2 : decode cX9_numberOf 2 = .ok (.iconst 0, 1) := dk_3 (dk_at dksX9_numberOf_0 2 rfl rfl)
theorem dX9_numberOf_3 : decode cX9_numberOf 3 = .ok (.istore 4, 2) := dk_54 4 (dk_at dksX9_numberOf_0 3 rfl rfl)
theorem dX9_numberOf_5 : decode cX9_numberOf 5 = .ok (.iload 4, 2) := dk_21 4 (dk_at dksX9_numberOf_0 5 rfl rfl)
theorem dX9_numberOf_7 : decode cX9_numberOf 7 = .ok (.iload_n 1, 1) := dk_27 (dk_at dksX9_numberOf_0 7 rfl rfl)
theorem dX9_numberOf_8 : decode cX9_numberOf 8 = .ok (.if_icmp .ge 27, 3) := dk_162 0 27 (dk_at dksX9_numberOf_0 8 rfl rfl)
theorem dX9_numberOf_11 : decode cX9_numberOf 11 = .ok (.iload_n 3, 1) := dk_29 (dk_at dksX9_numberOf_0 11 rfl rfl)
theorem dX9_numberOf_12 : decode cX9_numberOf 12 = .ok (.aload_n 0, 1) := dk_42 (dk_at dksX9_numberOf_0 12 rfl rfl)
theorem dX9_numberOf_13 : decode cX9_numberOf 13 = .ok (.iload 4, 2) := dk_21 4 (dk_at dksX9_numberOf_0 13 rfl rfl)
theorem dX9_numberOf_15 : decode cX9_numberOf 15 = .ok (.iload_n 2, 1) := dk_28 (dk_at dksX9_numberOf_0 15 rfl rfl)
theorem dX9_numberOf_16 : decode cX9_numberOf 16 = .ok (.invokevirtual 116, 3) := dk_182 0 116 (dk_at dksX9_numberOf_0 16 rfl rfl)
theorem dX9_numberOf_19 : decode cX9_numberOf 19 = .ok (.ifCond .eq 7, 3) := dk_153 0 7 (dk_at dksX9_numberOf_0 19 rfl rfl)
theorem dX9_numberOf_22 : decode cX9_numberOf 22 = .ok (.iconst 1, 1) := dk_4 (dk_at dksX9_numberOf_0 22 rfl rfl)
theorem dX9_numberOf_23 : decode cX9_numberOf 23 = .ok (.goto 4, 3) := dk_167 0 4 (dk_at dksX9_numberOf_1 0 rfl rfl)
theorem dX9_numberOf_26 : decode cX9_numberOf 26 = .ok (.iconst 0, 1) := dk_3 (dk_at dksX9_numberOf_1 3 rfl rfl)
theorem dX9_numberOf_27 : decode cX9_numberOf 27 = .ok (.iadd, 1) := dk_96 (dk_at dksX9_numberOf_1 4 rfl rfl)
theorem dX9_numberOf_28 : decode cX9_numberOf 28 = .ok (.istore_n 3, 1) := dk_62 (dk_at dksX9_numberOf_1 5 rfl rfl)
theorem dX9_numberOf_29 : decode cX9_numberOf 29 = .ok (.iinc 4 1, 3) := dk_132 4 1 (dk_at dksX9_numberOf_1 6 rfl rfl)
theorem dX9_numberOf_32 : decode cX9_numberOf 32 = .ok (.goto (-27), 3) := dk_167 255 229 (dk_at dksX9_numberOf_1 9 rfl rfl)
theorem dX9_numberOf_35 : decode cX9_numberOf 35 = .ok (.iload_n 3, 1) := dk_29 (dk_at dksX9_numberOf_1 12 rfl rfl)
theorem dX9_numberOf_36 : decode cX9_numberOf 36 = .ok (.ireturn, 1) := dk_172 (dk_at dksX9_numberOf_1 13 rfl rfl)
abbrev cX9_putDoor : ByteArray := prog_15_method_46_code
def yX9_putDoor : MethodName := ⟨RX9, "putDoor", "(III)I"⟩
def dkwX9_putDoor_3 : List UInt8 := [28, 182, 0, 102, 7, 182, 0, 205, 172]
abbrev dktX9_putDoor_3 : List UInt8 := dkwX9_putDoor_3 ++ []
def dkwX9_putDoor_2 : List UInt8 := [182, 0, 161, 16, 8, 160, 0, 6, 16, 252, 172, 42, 27, 28, 7, 2, 29, 182, 0, 197, 87, 42, 42, 27]
abbrev dktX9_putDoor_2 : List UInt8 := dkwX9_putDoor_2 ++ dktX9_putDoor_3
def dkwX9_putDoor_1 : List UInt8 := [153, 0, 5, 3, 172, 42, 27, 28, 182, 0, 194, 54, 4, 21, 4, 153, 0, 7, 21, 4, 116, 172, 42, 7]
abbrev dktX9_putDoor_1 : List UInt8 := dkwX9_putDoor_1 ++ dktX9_putDoor_2
def dkwX9_putDoor_0 : List UInt8 := [42, 3, 181, 0, 83, 42, 27, 28, 182, 0, 191, 154, 0, 14, 42, 29, 4, 5, 5, 182, 0, 201]
abbrev dktX9_putDoor_0 : List UInt8 := dkwX9_putDoor_0 ++ dktX9_putDoor_1
theorem dksX9_putDoor_0 : cX9_putDoor.data.toList.drop 0 = dktX9_putDoor_0 := by decide +kernel
theorem dksX9_putDoor_1 : cX9_putDoor.data.toList.drop 22 = dktX9_putDoor_1 := dk_seg dksX9_putDoor_0 22 rfl rfl
theorem dksX9_putDoor_2 : cX9_putDoor.data.toList.drop 46 = dktX9_putDoor_2 := dk_seg dksX9_putDoor_1 24 rfl rfl
theorem dksX9_putDoor_3 : cX9_putDoor.data.toList.drop 70 = dktX9_putDoor_3 := dk_seg dksX9_putDoor_2 24 rfl rfl
theorem dX9_putDoor_0 : decode cX9_putDoor 0 = .ok (.aload_n 0, 1) := dk_42 (dk_at dksX9_putDoor_0 0 rfl rfl)
theorem dX9_putDoor_1 : decode cX9_putDoor 1 = .ok (.iconst 0, 1) := dk_3 (dk_at dksX9_putDoor_0 1 rfl rfl)
theorem dX9_putDoor_2 : decode cX9_putDoor 2 = .ok (.putfield 83, 3) := dk_181 0 83 (dk_at dksX9_putDoor_0 2 rfl rfl)
theorem dX9_putDoor_5 : decode cX9_putDoor 5 = .ok (.aload_n 0, 1) := dk_42 (dk_at dksX9_putDoor_0 5 rfl rfl)
theorem dX9_putDoor_6 : decode cX9_putDoor 6 = .ok (.iload_n 1, 1) := dk_27 (dk_at dksX9_putDoor_0 6 rfl rfl)
theorem dX9_putDoor_7 : decode cX9_putDoor 7 = .ok (.iload_n 2, 1) := dk_28 (dk_at dksX9_putDoor_0 7 rfl rfl)
theorem dX9_putDoor_8 : decode cX9_putDoor 8 = .ok (.invokevirtual 191, 3) := dk_182 0 191 (dk_at dksX9_putDoor_0 8 rfl rfl)
theorem dX9_putDoor_11 : decode cX9_putDoor 11 = .ok (.ifCond .ne 14, 3) := dk_154 0 14 (dk_at dksX9_putDoor_0 11 rfl rfl)
theorem dX9_putDoor_14 : decode cX9_putDoor 14 = .ok (.aload_n 0, 1) := dk_42 (dk_at dksX9_putDoor_0 14 rfl rfl)
theorem dX9_putDoor_15 : decode cX9_putDoor 15 = .ok (.iload_n 3, 1) := dk_29 (dk_at dksX9_putDoor_0 15 rfl rfl)
theorem dX9_putDoor_16 : decode cX9_putDoor 16 = .ok (.iconst 1, 1) := dk_4 (dk_at dksX9_putDoor_0 16 rfl rfl)
theorem dX9_putDoor_17 : decode cX9_putDoor 17 = .ok (.iconst 2, 1) := dk_5 (dk_at dksX9_putDoor_0 17 rfl rfl)
theorem dX9_putDoor_18 : decode cX9_putDoor 18 = .ok (.iconst 2, 1) := dk_5 (dk_at dksX9_putDoor_0 18 rfl rfl)
theorem dX9_putDoor_19 : decode cX9_putDoor 19 = .ok (.invokevirtual 201, 3) := dk_182 0 201 (dk_at dksX9_putDoor_0 19 rfl rfl)
theorem dX9_putDoor_22 : decode cX9_putDoor 22 = .ok (.ifCond .eq 5, 3) := dk_153 0 5 (dk_at dksX9_putDoor_1 0 rfl rfl)
theorem dX9_putDoor_25 : decode cX9_putDoor 25 = .ok (.iconst 0, 1) := dk_3 (dk_at dksX9_putDoor_1 3 rfl rfl)
theorem dX9_putDoor_26 : decode cX9_putDoor 26 = .ok (.ireturn, 1) := dk_172 (dk_at dksX9_putDoor_1 4 rfl rfl)
theorem dX9_putDoor_27 : decode cX9_putDoor 27 = .ok (.aload_n 0, 1) := dk_42 (dk_at dksX9_putDoor_1 5 rfl rfl)
theorem dX9_putDoor_28 : decode cX9_putDoor 28 = .ok (.iload_n 1, 1) := dk_27 (dk_at dksX9_putDoor_1 6 rfl rfl)
theorem dX9_putDoor_29 : decode cX9_putDoor 29 = .ok (.iload_n 2, 1) := dk_28 (dk_at dksX9_putDoor_1 7 rfl rfl)
theorem dX9_putDoor_30 : decode cX9_putDoor 30 = .ok (.invokevirtual 194, 3) := dk_182 0 194 (dk_at dksX9_putDoor_1 8 rfl rfl)
theorem dX9_putDoor_33 : decode cX9_putDoor 33 = .ok (.istore 4, 2) := dk_54 4 (dk_at dksX9_putDoor_1 11 rfl rfl)
theorem dX9_putDoor_35 : decode cX9_putDoor 35 = .ok (.iload 4, 2) := dk_21 4 (dk_at dksX9_putDoor_1 13 rfl rfl)
theorem dX9_putDoor_37 : decode cX9_putDoor 37 = .ok (.ifCond .eq 7, 3) := dk_153 0 7 (dk_at dksX9_putDoor_1 15 rfl rfl)
theorem dX9_putDoor_40 : decode cX9_putDoor 40 = .ok (.iload 4, 2) := dk_21 4 (dk_at dksX9_putDoor_1 18 rfl rfl)
theorem dX9_putDoor_42 : decode cX9_putDoor 42 = .ok (.ineg, 1) := dk_116 (dk_at dksX9_putDoor_1 20 rfl rfl)
theorem dX9_putDoor_43 : decode cX9_putDoor 43 = .ok (.ireturn, 1) := dk_172 (dk_at dksX9_putDoor_1 21 rfl rfl)
theorem dX9_putDoor_44 : decode cX9_putDoor 44 = .ok (.aload_n 0, 1) := dk_42 (dk_at dksX9_putDoor_1 22 rfl rfl)
theorem dX9_putDoor_45 : decode cX9_putDoor 45 = .ok (.iconst 4, 1) := dk_7 (dk_at dksX9_putDoor_1 23 rfl rfl)
theorem dX9_putDoor_46 : decode cX9_putDoor 46 = .ok (.invokevirtual 161, 3) := dk_182 0 161 (dk_at dksX9_putDoor_2 0 rfl rfl)
theorem dX9_putDoor_49 : decode cX9_putDoor 49 = .ok (.bipush 8, 2) := dk_16 8 (dk_at dksX9_putDoor_2 3 rfl rfl)
theorem dX9_putDoor_51 : decode cX9_putDoor 51 = .ok (.if_icmp .ne 6, 3) := dk_160 0 6 (dk_at dksX9_putDoor_2 5 rfl rfl)
theorem dX9_putDoor_54 : decode cX9_putDoor 54 = .ok (.bipush (-4), 2) := dk_16 252 (dk_at dksX9_putDoor_2 8 rfl rfl)
theorem dX9_putDoor_56 : decode cX9_putDoor 56 = .ok (.ireturn, 1) := dk_172 (dk_at dksX9_putDoor_2 10 rfl rfl)
theorem dX9_putDoor_57 : decode cX9_putDoor 57 = .ok (.aload_n 0, 1) := dk_42 (dk_at dksX9_putDoor_2 11 rfl rfl)
theorem dX9_putDoor_58 : decode cX9_putDoor 58 = .ok (.iload_n 1, 1) := dk_27 (dk_at dksX9_putDoor_2 12 rfl rfl)
theorem dX9_putDoor_59 : decode cX9_putDoor 59 = .ok (.iload_n 2, 1) := dk_28 (dk_at dksX9_putDoor_2 13 rfl rfl)
theorem dX9_putDoor_60 : decode cX9_putDoor 60 = .ok (.iconst 4, 1) := dk_7 (dk_at dksX9_putDoor_2 14 rfl rfl)
theorem dX9_putDoor_61 : decode cX9_putDoor 61 = .ok (.iconst (-1), 1) := dk_2 (dk_at dksX9_putDoor_2 15 rfl rfl)
theorem dX9_putDoor_62 : decode cX9_putDoor 62 = .ok (.iload_n 3, 1) := dk_29 (dk_at dksX9_putDoor_2 16 rfl rfl)
theorem dX9_putDoor_63 : decode cX9_putDoor 63 = .ok (.invokevirtual 197, 3) := dk_182 0 197 (dk_at dksX9_putDoor_2 17 rfl rfl)
theorem dX9_putDoor_66 : decode cX9_putDoor 66 = .ok (.pop, 1) := dk_87 (dk_at dksX9_putDoor_2 20 rfl rfl)
theorem dX9_putDoor_67 : decode cX9_putDoor 67 = .ok (.aload_n 0, 1) := dk_42 (dk_at dksX9_putDoor_2 21 rfl rfl)
theorem dX9_putDoor_68 : decode cX9_putDoor 68 = .ok (.aload_n 0, 1) := dk_42 (dk_at dksX9_putDoor_2 22 rfl rfl)
theorem dX9_putDoor_69 : decode cX9_putDoor 69 = .ok (.iload_n 1, 1) := dk_27 (dk_at dksX9_putDoor_2 23 rfl rfl)
theorem dX9_putDoor_70 : decode cX9_putDoor 70 = .ok (.iload_n 2, 1) := dk_28 (dk_at dksX9_putDoor_3 0 rfl rfl)
theorem dX9_putDoor_71 : decode cX9_putDoor 71 = .ok (.invokevirtual 102, 3) := dk_182 0 102 (dk_at dksX9_putDoor_3 1 rfl rfl)
theorem dX9_putDoor_74 : decode cX9_putDoor 74 = .ok (.iconst 4, 1) := dk_7 (dk_at dksX9_putDoor_3 4 rfl rfl)
theorem dX9_putDoor_75 : decode cX9_putDoor 75 = .ok (.invokevirtual 205, 3) := dk_182 0 205 (dk_at dksX9_putDoor_3 5 rfl rfl)
theorem dX9_putDoor_78 : decode cX9_putDoor 78 = .ok (.ireturn, 1) := dk_172 (dk_at dksX9_putDoor_3 8 rfl rfl)
abbrev cX9_putGate : ByteArray := prog_15_method_47_code
def yX9_putGate : MethodName := ⟨RX9, "putGate", "(III)I"⟩
def dkwX9_putGate_2 : List UInt8 := [42, 27, 28, 8, 29, 3, 182, 0, 197, 172]
abbrev dktX9_putGate_2 : List UInt8 := dkwX9_putGate_2 ++ []
def dkwX9_putGate_1 : List UInt8 := [153, 0, 5, 3, 172, 42, 27, 28, 182, 0, 194, 54, 4, 21, 4, 153, 0, 9, 21, 4, 116, 167, 0, 12]
abbrev dktX9_putGate_1 : List UInt8 := dkwX9_putGate_1 ++ dktX9_putGate_2
def dkwX9_putGate_0 : List UInt8 := [42, 3, 181, 0, 83, 42, 27, 28, 182, 0, 191, 154, 0, 14, 42, 29, 3, 6, 5, 182, 0, 201]
abbrev dktX9_putGate_0 : List UInt8 := dkwX9_putGate_0 ++ dktX9_putGate_1
theorem dksX9_putGate_0 : cX9_putGate.data.toList.drop 0 = dktX9_putGate_0 := by decide +kernel
theorem dksX9_putGate_1 : cX9_putGate.data.toList.drop 22 = dktX9_putGate_1 := dk_seg dksX9_putGate_0 22 rfl rfl
theorem dksX9_putGate_2 : cX9_putGate.data.toList.drop 46 = dktX9_putGate_2 := dk_seg dksX9_putGate_1 24 rfl rfl
theorem dX9_putGate_0 : decode cX9_putGate 0 = .ok (.aload_n 0, 1) := dk_42 (dk_at dksX9_putGate_0 0 rfl rfl)
theorem dX9_putGate_1 : decode cX9_putGate 1 = .ok (.iconst 0, 1) := dk_3 (dk_at dksX9_putGate_0 1 rfl rfl)
theorem dX9_putGate_2 : decode cX9_putGate 2 = .ok (.putfield 83, 3) := dk_181 0 83 (dk_at dksX9_putGate_0 2 rfl rfl)
theorem dX9_putGate_5 : decode cX9_putGate 5 = .ok (.aload_n 0, 1) := dk_42 (dk_at dksX9_putGate_0 5 rfl rfl)
theorem dX9_putGate_6 : decode cX9_putGate 6 = .ok (.iload_n 1, 1) := dk_27 (dk_at dksX9_putGate_0 6 rfl rfl)
theorem dX9_putGate_7 : decode cX9_putGate 7 = .ok (.iload_n 2, 1) := dk_28 (dk_at dksX9_putGate_0 7 rfl rfl)
theorem dX9_putGate_8 : decode cX9_putGate 8 = .ok (.invokevirtual 191, 3) := dk_182 0 191 (dk_at dksX9_putGate_0 8 rfl rfl)
theorem dX9_putGate_11 : decode cX9_putGate 11 = .ok (.ifCond .ne 14, 3) := dk_154 0 14 (dk_at dksX9_putGate_0 11 rfl rfl)
theorem dX9_putGate_14 : decode cX9_putGate 14 = .ok (.aload_n 0, 1) := dk_42 (dk_at dksX9_putGate_0 14 rfl rfl)
theorem dX9_putGate_15 : decode cX9_putGate 15 = .ok (.iload_n 3, 1) := dk_29 (dk_at dksX9_putGate_0 15 rfl rfl)
theorem dX9_putGate_16 : decode cX9_putGate 16 = .ok (.iconst 0, 1) := dk_3 (dk_at dksX9_putGate_0 16 rfl rfl)
theorem dX9_putGate_17 : decode cX9_putGate 17 = .ok (.iconst 3, 1) := dk_6 (dk_at dksX9_putGate_0 17 rfl rfl)
theorem dX9_putGate_18 : decode cX9_putGate 18 = .ok (.iconst 2, 1) := dk_5 (dk_at dksX9_putGate_0 18 rfl rfl)
theorem dX9_putGate_19 : decode cX9_putGate 19 = .ok (.invokevirtual 201, 3) := dk_182 0 201 (dk_at dksX9_putGate_0 19 rfl rfl)
theorem dX9_putGate_22 : decode cX9_putGate 22 = .ok (.ifCond .eq 5, 3) := dk_153 0 5 (dk_at dksX9_putGate_1 0 rfl rfl)
theorem dX9_putGate_25 : decode cX9_putGate 25 = .ok (.iconst 0, 1) := dk_3 (dk_at dksX9_putGate_1 3 rfl rfl)
theorem dX9_putGate_26 : decode cX9_putGate 26 = .ok (.ireturn, 1) := dk_172 (dk_at dksX9_putGate_1 4 rfl rfl)
theorem dX9_putGate_27 : decode cX9_putGate 27 = .ok (.aload_n 0, 1) := dk_42 (dk_at dksX9_putGate_1 5 rfl rfl)
theorem dX9_putGate_28 : decode cX9_putGate 28 = .ok (.iload_n 1, 1) := dk_27 (dk_at dksX9_putGate_1 6 rfl rfl)
theorem dX9_putGate_29 : decode cX9_putGate 29 = .ok (.iload_n 2, 1) := dk_28 (dk_at dksX9_putGate_1 7 rfl rfl)
theorem dX9_putGate_30 : decode cX9_putGate 30 = .ok (.invokevirtual 194, 3) := dk_182 0 194 (dk_at dksX9_putGate_1 8 rfl rfl)
theorem dX9_putGate_33 : decode cX9_putGate 33 = .ok (.istore 4, 2) := dk_54 4 (dk_at dksX9_putGate_1 11 rfl rfl)
theorem dX9_putGate_35 : decode cX9_putGate 35 = .ok (.iload 4, 2) := dk_21 4 (dk_at dksX9_putGate_1 13 rfl rfl)
theorem dX9_putGate_37 : decode cX9_putGate 37 = .ok (.ifCond .eq 9, 3) := dk_153 0 9 (dk_at dksX9_putGate_1 15 rfl rfl)
theorem dX9_putGate_40 : decode cX9_putGate 40 = .ok (.iload 4, 2) := dk_21 4 (dk_at dksX9_putGate_1 18 rfl rfl)
theorem dX9_putGate_42 : decode cX9_putGate 42 = .ok (.ineg, 1) := dk_116 (dk_at dksX9_putGate_1 20 rfl rfl)
theorem dX9_putGate_43 : decode cX9_putGate 43 = .ok (.goto 12, 3) := dk_167 0 12 (dk_at dksX9_putGate_1 21 rfl rfl)
theorem dX9_putGate_46 : decode cX9_putGate 46 = .ok (.aload_n 0, 1) := dk_42 (dk_at dksX9_putGate_2 0 rfl rfl)
theorem dX9_putGate_47 : decode cX9_putGate 47 = .ok (.iload_n 1, 1) := dk_27 (dk_at dksX9_putGate_2 1 rfl rfl)
theorem dX9_putGate_48 : decode cX9_putGate 48 = .ok (.iload_n 2, 1) := dk_28 (dk_at dksX9_putGate_2 2 rfl rfl)
theorem dX9_putGate_49 : decode cX9_putGate 49 = .ok (.iconst 5, 1) := dk_8 (dk_at dksX9_putGate_2 3 rfl rfl)
theorem dX9_putGate_50 : decode cX9_putGate 50 = .ok (.iload_n 3, 1) := dk_29 (dk_at dksX9_putGate_2 4 rfl rfl)
theorem dX9_putGate_51 : decode cX9_putGate 51 = .ok (.iconst 0, 1) := dk_3 (dk_at dksX9_putGate_2 5 rfl rfl)
theorem dX9_putGate_52 : decode cX9_putGate 52 = .ok (.invokevirtual 197, 3) := dk_182 0 197 (dk_at dksX9_putGate_2 6 rfl rfl)
theorem dX9_putGate_55 : decode cX9_putGate 55 = .ok (.ireturn, 1) := dk_172 (dk_at dksX9_putGate_2 9 rfl rfl)
abbrev cX9_putPortals : ByteArray := prog_15_method_49_code
def yX9_putPortals : MethodName := ⟨RX9, "putPortals", "(IIII)I"⟩
def dkwX9_putPortals_5 : List UInt8 := [172]
abbrev dktX9_putPortals_5 : List UInt8 := dkwX9_putPortals_5 ++ []
def dkwX9_putPortals_4 : List UInt8 := [42, 180, 0, 9, 182, 0, 187, 42, 27, 28, 29, 21, 4, 182, 0, 208, 42, 16, 6, 182, 0, 161, 5, 108]
abbrev dktX9_putPortals_4 : List UInt8 := dkwX9_putPortals_4 ++ dktX9_putPortals_5
def dkwX9_putPortals_3 : List UInt8 := [21, 5, 153, 0, 7, 21, 5, 116, 172, 42, 16, 6, 182, 0, 161, 16, 8, 160, 0, 6, 16, 252, 172, 42]
abbrev dktX9_putPortals_3 : List UInt8 := dkwX9_putPortals_3 ++ dktX9_putPortals_4
def dkwX9_putPortals_2 : List UInt8 := [182, 0, 194, 54, 5, 21, 5, 153, 0, 8, 21, 5, 167, 0, 10, 42, 29, 21, 4, 182, 0, 194, 54, 5]
abbrev dktX9_putPortals_2 : List UInt8 := dkwX9_putPortals_2 ++ dktX9_putPortals_3
def dkwX9_putPortals_1 : List UInt8 := [3, 172, 27, 29, 160, 0, 16, 28, 21, 4, 160, 0, 10, 42, 5, 181, 0, 83, 3, 172, 42, 27, 28]
abbrev dktX9_putPortals_1 : List UInt8 := dkwX9_putPortals_1 ++ dktX9_putPortals_2
def dkwX9_putPortals_0 : List UInt8 := [42, 3, 181, 0, 83, 42, 27, 28, 182, 0, 191, 154, 0, 13, 42, 29, 21, 4, 182, 0, 191, 153, 0, 5]
abbrev dktX9_putPortals_0 : List UInt8 := dkwX9_putPortals_0 ++ dktX9_putPortals_1
theorem dksX9_putPortals_0 : cX9_putPortals.data.toList.drop 0 = dktX9_putPortals_0 := by decide +kernel
theorem dksX9_putPortals_1 : cX9_putPortals.data.toList.drop 24 = dktX9_putPortals_1 := dk_seg dksX9_putPortals_0 24 rfl rfl
theorem dksX9_putPortals_2 : cX9_putPortals.data.toList.drop 47 = dktX9_putPortals_2 := dk_seg dksX9_putPortals_1 23 rfl rfl
theorem dksX9_putPortals_3 : cX9_putPortals.data.toList.drop 71 = dktX9_putPortals_3 := dk_seg dksX9_putPortals_2 24 rfl rfl
theorem dksX9_putPortals_4 : cX9_putPortals.data.toList.drop 95 = dktX9_putPortals_4 := dk_seg dksX9_putPortals_3 24 rfl rfl
theorem dksX9_putPortals_5 : cX9_putPortals.data.toList.drop 119 = dktX9_putPortals_5 := dk_seg dksX9_putPortals_4 24 rfl rfl
theorem dX9_putPortals_0 : decode cX9_putPortals 0 = .ok (.aload_n 0, 1) := dk_42 (dk_at dksX9_putPortals_0 0 rfl rfl)
theorem dX9_putPortals_1 : decode cX9_putPortals 1 = .ok (.iconst 0, 1) := dk_3 (dk_at dksX9_putPortals_0 1 rfl rfl)
theorem dX9_putPortals_2 : decode cX9_putPortals 2 = .ok (.putfield 83, 3) := dk_181 0 83 (dk_at dksX9_putPortals_0 2 rfl rfl)
theorem dX9_putPortals_5 : decode cX9_putPortals 5 = .ok (.aload_n 0, 1) := dk_42 (dk_at dksX9_putPortals_0 5 rfl rfl)
theorem dX9_putPortals_6 : decode cX9_putPortals 6 = .ok (.iload_n 1, 1) := dk_27 (dk_at dksX9_putPortals_0 6 rfl rfl)
theorem dX9_putPortals_7 : decode cX9_putPortals 7 = .ok (.iload_n 2, 1) := dk_28 (dk_at dksX9_putPortals_0 7 rfl rfl)
theorem dX9_putPortals_8 : decode cX9_putPortals 8 = .ok (.invokevirtual 191, 3) := dk_182 0 191 (dk_at dksX9_putPortals_0 8 rfl rfl)
theorem dX9_putPortals_11 : decode cX9_putPortals 11 = .ok (.ifCond .ne 13, 3) := dk_154 0 13 (dk_at dksX9_putPortals_0 11 rfl rfl)
theorem dX9_putPortals_14 : decode cX9_putPortals 14 = .ok (.aload_n 0, 1) := dk_42 (dk_at dksX9_putPortals_0 14 rfl rfl)
theorem dX9_putPortals_15 : decode cX9_putPortals 15 = .ok (.iload_n 3, 1) := dk_29 (dk_at dksX9_putPortals_0 15 rfl rfl)
theorem dX9_putPortals_16 : decode cX9_putPortals 16 = .ok (.iload 4, 2) := dk_21 4 (dk_at dksX9_putPortals_0 16 rfl rfl)
theorem dX9_putPortals_18 : decode cX9_putPortals 18 = .ok (.invokevirtual 191, 3) := dk_182 0 191 (dk_at dksX9_putPortals_0 18 rfl rfl)
theorem dX9_putPortals_21 : decode cX9_putPortals 21 = .ok (.ifCond .eq 5, 3) := dk_153 0 5 (dk_at dksX9_putPortals_0 21 rfl rfl)
theorem dX9_putPortals_24 : decode cX9_putPortals 24 = .ok (.iconst 0, 1) := dk_3 (dk_at dksX9_putPortals_1 0 rfl rfl)
theorem dX9_putPortals_25 : decode cX9_putPortals 25 = .ok (.ireturn, 1) := dk_172 (dk_at dksX9_putPortals_1 1 rfl rfl)
theorem dX9_putPortals_26 : decode cX9_putPortals 26 = .ok (.iload_n 1, 1) := dk_27 (dk_at dksX9_putPortals_1 2 rfl rfl)
theorem dX9_putPortals_27 : decode cX9_putPortals 27 = .ok (.iload_n 3, 1) := dk_29 (dk_at dksX9_putPortals_1 3 rfl rfl)
theorem dX9_putPortals_28 : decode cX9_putPortals 28 = .ok (.if_icmp .ne 16, 3) := dk_160 0 16 (dk_at dksX9_putPortals_1 4 rfl rfl)
theorem dX9_putPortals_31 : decode cX9_putPortals 31 = .ok (.iload_n 2, 1) := dk_28 (dk_at dksX9_putPortals_1 7 rfl rfl)
theorem dX9_putPortals_32 : decode cX9_putPortals 32 = .ok (.iload 4, 2) := dk_21 4 (dk_at dksX9_putPortals_1 8 rfl rfl)
theorem dX9_putPortals_34 : decode cX9_putPortals 34 = .ok (.if_icmp .ne 10, 3) := dk_160 0 10 (dk_at dksX9_putPortals_1 10 rfl rfl)
theorem dX9_putPortals_37 : decode cX9_putPortals 37 = .ok (.aload_n 0, 1) := dk_42 (dk_at dksX9_putPortals_1 13 rfl rfl)
theorem dX9_putPortals_38 : decode cX9_putPortals 38 = .ok (.iconst 2, 1) := dk_5 (dk_at dksX9_putPortals_1 14 rfl rfl)
theorem dX9_putPortals_39 : decode cX9_putPortals 39 = .ok (.putfield 83, 3) := dk_181 0 83 (dk_at dksX9_putPortals_1 15 rfl rfl)
theorem dX9_putPortals_42 : decode cX9_putPortals 42 = .ok (.iconst 0, 1) := dk_3 (dk_at dksX9_putPortals_1 18 rfl rfl)
theorem dX9_putPortals_43 : decode cX9_putPortals 43 = .ok (.ireturn, 1) := dk_172 (dk_at dksX9_putPortals_1 19 rfl rfl)
theorem dX9_putPortals_44 : decode cX9_putPortals 44 = .ok (.aload_n 0, 1) := dk_42 (dk_at dksX9_putPortals_1 20 rfl rfl)
theorem dX9_putPortals_45 : decode cX9_putPortals 45 = .ok (.iload_n 1, 1) := dk_27 (dk_at dksX9_putPortals_1 21 rfl rfl)
theorem dX9_putPortals_46 : decode cX9_putPortals 46 = .ok (.iload_n 2, 1) := dk_28 (dk_at dksX9_putPortals_1 22 rfl rfl)
theorem dX9_putPortals_47 : decode cX9_putPortals 47 = .ok (.invokevirtual 194, 3) := dk_182 0 194 (dk_at dksX9_putPortals_2 0 rfl rfl)
theorem dX9_putPortals_50 : decode cX9_putPortals 50 = .ok (.istore 5, 2) := dk_54 5 (dk_at dksX9_putPortals_2 3 rfl rfl)
theorem dX9_putPortals_52 : decode cX9_putPortals 52 = .ok (.iload 5, 2) := dk_21 5 (dk_at dksX9_putPortals_2 5 rfl rfl)
theorem dX9_putPortals_54 : decode cX9_putPortals 54 = .ok (.ifCond .eq 8, 3) := dk_153 0 8 (dk_at dksX9_putPortals_2 7 rfl rfl)
theorem dX9_putPortals_57 : decode cX9_putPortals 57 = .ok (.iload 5, 2) := dk_21 5 (dk_at dksX9_putPortals_2 10 rfl rfl)
theorem dX9_putPortals_59 : decode cX9_putPortals 59 = .ok (.goto 10, 3) := dk_167 0 10 (dk_at dksX9_putPortals_2 12 rfl rfl)
theorem dX9_putPortals_62 : decode cX9_putPortals 62 = .ok (.aload_n 0, 1) := dk_42 (dk_at dksX9_putPortals_2 15 rfl rfl)
theorem dX9_putPortals_63 : decode cX9_putPortals 63 = .ok (.iload_n 3, 1) := dk_29 (dk_at dksX9_putPortals_2 16 rfl rfl)
theorem dX9_putPortals_64 : decode cX9_putPortals 64 = .ok (.iload 4, 2) := dk_21 4 (dk_at dksX9_putPortals_2 17 rfl rfl)
theorem dX9_putPortals_66 : decode cX9_putPortals 66 = .ok (.invokevirtual 194, 3) := dk_182 0 194 (dk_at dksX9_putPortals_2 19 rfl rfl)
theorem dX9_putPortals_69 : decode cX9_putPortals 69 = .ok (.istore 5, 2) := dk_54 5 (dk_at dksX9_putPortals_2 22 rfl rfl)
theorem dX9_putPortals_71 : decode cX9_putPortals 71 = .ok (.iload 5, 2) := dk_21 5 (dk_at dksX9_putPortals_3 0 rfl rfl)
theorem dX9_putPortals_73 : decode cX9_putPortals 73 = .ok (.ifCond .eq 7, 3) := dk_153 0 7 (dk_at dksX9_putPortals_3 2 rfl rfl)
theorem dX9_putPortals_76 : decode cX9_putPortals 76 = .ok (.iload 5, 2) := dk_21 5 (dk_at dksX9_putPortals_3 5 rfl rfl)
theorem dX9_putPortals_78 : decode cX9_putPortals 78 = .ok (.ineg, 1) := dk_116 (dk_at dksX9_putPortals_3 7 rfl rfl)
theorem dX9_putPortals_79 : decode cX9_putPortals 79 = .ok (.ireturn, 1) := dk_172 (dk_at dksX9_putPortals_3 8 rfl rfl)
theorem dX9_putPortals_80 : decode cX9_putPortals 80 = .ok (.aload_n 0, 1) := dk_42 (dk_at dksX9_putPortals_3 9 rfl rfl)
theorem dX9_putPortals_81 : decode cX9_putPortals 81 = .ok (.bipush 6, 2) := dk_16 6 (dk_at dksX9_putPortals_3 10 rfl rfl)
theorem dX9_putPortals_83 : decode cX9_putPortals 83 = .ok (.invokevirtual 161, 3) := dk_182 0 161 (dk_at dksX9_putPortals_3 12 rfl rfl)
theorem dX9_putPortals_86 : decode cX9_putPortals 86 = .ok (.bipush 8, 2) := dk_16 8 (dk_at dksX9_putPortals_3 15 rfl rfl)
theorem dX9_putPortals_88 : decode cX9_putPortals 88 = .ok (.if_icmp .ne 6, 3) := dk_160 0 6 (dk_at dksX9_putPortals_3 17 rfl rfl)
theorem dX9_putPortals_91 : decode cX9_putPortals 91 = .ok (.bipush (-4), 2) := dk_16 252 (dk_at dksX9_putPortals_3 20 rfl rfl)
theorem dX9_putPortals_93 : decode cX9_putPortals 93 = .ok (.ireturn, 1) := dk_172 (dk_at dksX9_putPortals_3 22 rfl rfl)
theorem dX9_putPortals_94 : decode cX9_putPortals 94 = .ok (.aload_n 0, 1) := dk_42 (dk_at dksX9_putPortals_3 23 rfl rfl)
theorem dX9_putPortals_95 : decode cX9_putPortals 95 = .ok (.aload_n 0, 1) := dk_42 (dk_at dksX9_putPortals_4 0 rfl rfl)
theorem dX9_putPortals_96 : decode cX9_putPortals 96 = .ok (.getfield 9, 3) := dk_180 0 9 (dk_at dksX9_putPortals_4 1 rfl rfl)
theorem dX9_putPortals_99 : decode cX9_putPortals 99 = .ok (.invokevirtual 187, 3) := dk_182 0 187 (dk_at dksX9_putPortals_4 4 rfl rfl)
theorem dX9_putPortals_102 : decode cX9_putPortals 102 = .ok (.aload_n 0, 1) := dk_42 (dk_at dksX9_putPortals_4 7 rfl rfl)
theorem dX9_putPortals_103 : decode cX9_putPortals 103 = .ok (.iload_n 1, 1) := dk_27 (dk_at dksX9_putPortals_4 8 rfl rfl)
theorem dX9_putPortals_104 : decode cX9_putPortals 104 = .ok (.iload_n 2, 1) := dk_28 (dk_at dksX9_putPortals_4 9 rfl rfl)
theorem dX9_putPortals_105 : decode cX9_putPortals 105 = .ok (.iload_n 3, 1) := dk_29 (dk_at dksX9_putPortals_4 10 rfl rfl)
theorem dX9_putPortals_106 : decode cX9_putPortals 106 = .ok (.iload 4, 2) := dk_21 4 (dk_at dksX9_putPortals_4 11 rfl rfl)
theorem dX9_putPortals_108 : decode cX9_putPortals 108 = .ok (.invokevirtual 208, 3) := dk_182 0 208 (dk_at dksX9_putPortals_4 13 rfl rfl)
theorem dX9_putPortals_111 : decode cX9_putPortals 111 = .ok (.aload_n 0, 1) := dk_42 (dk_at dksX9_putPortals_4 16 rfl rfl)
theorem dX9_putPortals_112 : decode cX9_putPortals 112 = .ok (.bipush 6, 2) := dk_16 6 (dk_at dksX9_putPortals_4 17 rfl rfl)
theorem dX9_putPortals_114 : decode cX9_putPortals 114 = .ok (.invokevirtual 161, 3) := dk_182 0 161 (dk_at dksX9_putPortals_4 19 rfl rfl)
theorem dX9_putPortals_117 : decode cX9_putPortals 117 = .ok (.iconst 2, 1) := dk_5 (dk_at dksX9_putPortals_4 22 rfl rfl)
theorem dX9_putPortals_118 : decode cX9_putPortals 118 = .ok (.idiv, 1) := dk_108 (dk_at dksX9_putPortals_4 23 rfl rfl)
theorem dX9_putPortals_119 : decode cX9_putPortals 119 = .ok (.ireturn, 1) := dk_172 (dk_at dksX9_putPortals_5 0 rfl rfl)
abbrev cX9_layPair : ByteArray := prog_15_method_48_code
def yX9_layPair : MethodName := ⟨RX9, "layPair", "(IIII)V"⟩
def dkwX9_layPair_1 : List UInt8 := [28, 182, 0, 102, 3, 182, 0, 75, 42, 182, 0, 79, 87, 177]
abbrev dktX9_layPair_1 : List UInt8 := dkwX9_layPair_1 ++ []
def dkwX9_layPair_0 : List UInt8 := [42, 27, 28, 16, 6, 42, 29, 21, 4, 182, 0, 102, 3, 182, 0, 75, 42, 29, 21, 4, 16, 6, 42, 27]
abbrev dktX9_layPair_0 : List UInt8 := dkwX9_layPair_0 ++ dktX9_layPair_1
theorem dksX9_layPair_0 : cX9_layPair.data.toList.drop 0 = dktX9_layPair_0 := by decide +kernel
theorem dksX9_layPair_1 : cX9_layPair.data.toList.drop 24 = dktX9_layPair_1 := dk_seg dksX9_layPair_0 24 rfl rfl
theorem dX9_layPair_0 : decode cX9_layPair 0 = .ok (.aload_n 0, 1) := dk_42 (dk_at dksX9_layPair_0 0 rfl rfl)
theorem dX9_layPair_1 : decode cX9_layPair 1 = .ok (.iload_n 1, 1) := dk_27 (dk_at dksX9_layPair_0 1 rfl rfl)
theorem dX9_layPair_2 : decode cX9_layPair 2 = .ok (.iload_n 2, 1) := dk_28 (dk_at dksX9_layPair_0 2 rfl rfl)
theorem dX9_layPair_3 : decode cX9_layPair 3 = .ok (.bipush 6, 2) := dk_16 6 (dk_at dksX9_layPair_0 3 rfl rfl)
theorem dX9_layPair_5 : decode cX9_layPair 5 = .ok (.aload_n 0, 1) := dk_42 (dk_at dksX9_layPair_0 5 rfl rfl)
theorem dX9_layPair_6 : decode cX9_layPair 6 = .ok (.iload_n 3, 1) := dk_29 (dk_at dksX9_layPair_0 6 rfl rfl)
theorem dX9_layPair_7 : decode cX9_layPair 7 = .ok (.iload 4, 2) := dk_21 4 (dk_at dksX9_layPair_0 7 rfl rfl)
theorem dX9_layPair_9 : decode cX9_layPair 9 = .ok (.invokevirtual 102, 3) := dk_182 0 102 (dk_at dksX9_layPair_0 9 rfl rfl)
theorem dX9_layPair_12 : decode cX9_layPair 12 = .ok (.iconst 0, 1) := dk_3 (dk_at dksX9_layPair_0 12 rfl rfl)
theorem dX9_layPair_13 : decode cX9_layPair 13 = .ok (.invokevirtual 75, 3) := dk_182 0 75 (dk_at dksX9_layPair_0 13 rfl rfl)
theorem dX9_layPair_16 : decode cX9_layPair 16 = .ok (.aload_n 0, 1) := dk_42 (dk_at dksX9_layPair_0 16 rfl rfl)
theorem dX9_layPair_17 : decode cX9_layPair 17 = .ok (.iload_n 3, 1) := dk_29 (dk_at dksX9_layPair_0 17 rfl rfl)
theorem dX9_layPair_18 : decode cX9_layPair 18 = .ok (.iload 4, 2) := dk_21 4 (dk_at dksX9_layPair_0 18 rfl rfl)
theorem dX9_layPair_20 : decode cX9_layPair 20 = .ok (.bipush 6, 2) := dk_16 6 (dk_at dksX9_layPair_0 20 rfl rfl)
theorem dX9_layPair_22 : decode cX9_layPair 22 = .ok (.aload_n 0, 1) := dk_42 (dk_at dksX9_layPair_0 22 rfl rfl)
theorem dX9_layPair_23 : decode cX9_layPair 23 = .ok (.iload_n 1, 1) := dk_27 (dk_at dksX9_layPair_0 23 rfl rfl)
theorem dX9_layPair_24 : decode cX9_layPair 24 = .ok (.iload_n 2, 1) := dk_28 (dk_at dksX9_layPair_1 0 rfl rfl)
theorem dX9_layPair_25 : decode cX9_layPair 25 = .ok (.invokevirtual 102, 3) := dk_182 0 102 (dk_at dksX9_layPair_1 1 rfl rfl)
theorem dX9_layPair_28 : decode cX9_layPair 28 = .ok (.iconst 0, 1) := dk_3 (dk_at dksX9_layPair_1 4 rfl rfl)
theorem dX9_layPair_29 : decode cX9_layPair 29 = .ok (.invokevirtual 75, 3) := dk_182 0 75 (dk_at dksX9_layPair_1 5 rfl rfl)
theorem dX9_layPair_32 : decode cX9_layPair 32 = .ok (.aload_n 0, 1) := dk_42 (dk_at dksX9_layPair_1 8 rfl rfl)
theorem dX9_layPair_33 : decode cX9_layPair 33 = .ok (.invokevirtual 79, 3) := dk_182 0 79 (dk_at dksX9_layPair_1 9 rfl rfl)
theorem dX9_layPair_36 : decode cX9_layPair 36 = .ok (.pop, 1) := dk_87 (dk_at dksX9_layPair_1 12 rfl rfl)
theorem dX9_layPair_37 : decode cX9_layPair 37 = .ok (.return_, 1) := dk_177 (dk_at dksX9_layPair_1 13 rfl rfl)
abbrev cX9_clear : ByteArray := prog_15_method_50_code
def yX9_clear : MethodName := ⟨RX9, "clear", "(II)I"⟩
def dkwX9_clear_4 : List UInt8 := [21, 4, 172]
abbrev dktX9_clear_4 : List UInt8 := dkwX9_clear_4 ++ []
def dkwX9_clear_3 : List UInt8 := [160, 0, 13, 42, 42, 29, 4, 182, 0, 106, 182, 0, 87, 42, 29, 182, 0, 87, 42, 182, 0, 79, 87]
abbrev dktX9_clear_3 : List UInt8 := dkwX9_clear_3 ++ dktX9_clear_4
def dkwX9_clear_2 : List UInt8 := [21, 4, 16, 7, 160, 0, 6, 16, 251, 172, 42, 42, 180, 0, 9, 182, 0, 187, 21, 4, 16, 6]
abbrev dktX9_clear_2 : List UInt8 := dkwX9_clear_2 ++ dktX9_clear_3
def dkwX9_clear_1 : List UInt8 := [29, 3, 182, 0, 106, 54, 4, 42, 180, 0, 9, 7, 46, 158, 0, 6, 16, 254, 172, 21, 4, 153, 0, 10]
abbrev dktX9_clear_1 : List UInt8 := dkwX9_clear_1 ++ dktX9_clear_2
def dkwX9_clear_0 : List UInt8 := [42, 3, 181, 0, 83, 42, 27, 28, 182, 0, 191, 153, 0, 5, 3, 172, 42, 27, 28, 182, 0, 102, 62, 42]
abbrev dktX9_clear_0 : List UInt8 := dkwX9_clear_0 ++ dktX9_clear_1
theorem dksX9_clear_0 : cX9_clear.data.toList.drop 0 = dktX9_clear_0 := by decide +kernel
theorem dksX9_clear_1 : cX9_clear.data.toList.drop 24 = dktX9_clear_1 := dk_seg dksX9_clear_0 24 rfl rfl
theorem dksX9_clear_2 : cX9_clear.data.toList.drop 48 = dktX9_clear_2 := dk_seg dksX9_clear_1 24 rfl rfl
theorem dksX9_clear_3 : cX9_clear.data.toList.drop 70 = dktX9_clear_3 := dk_seg dksX9_clear_2 22 rfl rfl
theorem dksX9_clear_4 : cX9_clear.data.toList.drop 93 = dktX9_clear_4 := dk_seg dksX9_clear_3 23 rfl rfl
theorem dX9_clear_0 : decode cX9_clear 0 = .ok (.aload_n 0, 1) := dk_42 (dk_at dksX9_clear_0 0 rfl rfl)
theorem dX9_clear_1 : decode cX9_clear 1 = .ok (.iconst 0, 1) := dk_3 (dk_at dksX9_clear_0 1 rfl rfl)
theorem dX9_clear_2 : decode cX9_clear 2 = .ok (.putfield 83, 3) := dk_181 0 83 (dk_at dksX9_clear_0 2 rfl rfl)
theorem dX9_clear_5 : decode cX9_clear 5 = .ok (.aload_n 0, 1) := dk_42 (dk_at dksX9_clear_0 5 rfl rfl)
theorem dX9_clear_6 : decode cX9_clear 6 = .ok (.iload_n 1, 1) := dk_27 (dk_at dksX9_clear_0 6 rfl rfl)
theorem dX9_clear_7 : decode cX9_clear 7 = .ok (.iload_n 2, 1) := dk_28 (dk_at dksX9_clear_0 7 rfl rfl)
theorem dX9_clear_8 : decode cX9_clear 8 = .ok (.invokevirtual 191, 3) := dk_182 0 191 (dk_at dksX9_clear_0 8 rfl rfl)
theorem dX9_clear_11 : decode cX9_clear 11 = .ok (.ifCond .eq 5, 3) := dk_153 0 5 (dk_at dksX9_clear_0 11 rfl rfl)
theorem dX9_clear_14 : decode cX9_clear 14 = .ok (.iconst 0, 1) := dk_3 (dk_at dksX9_clear_0 14 rfl rfl)
theorem dX9_clear_15 : decode cX9_clear 15 = .ok (.ireturn, 1) := dk_172 (dk_at dksX9_clear_0 15 rfl rfl)
theorem dX9_clear_16 : decode cX9_clear 16 = .ok (.aload_n 0, 1) := dk_42 (dk_at dksX9_clear_0 16 rfl rfl)
theorem dX9_clear_17 : decode cX9_clear 17 = .ok (.iload_n 1, 1) := dk_27 (dk_at dksX9_clear_0 17 rfl rfl)
theorem dX9_clear_18 : decode cX9_clear 18 = .ok (.iload_n 2, 1) := dk_28 (dk_at dksX9_clear_0 18 rfl rfl)
theorem dX9_clear_19 : decode cX9_clear 19 = .ok (.invokevirtual 102, 3) := dk_182 0 102 (dk_at dksX9_clear_0 19 rfl rfl)
theorem dX9_clear_22 : decode cX9_clear 22 = .ok (.istore_n 3, 1) := dk_62 (dk_at dksX9_clear_0 22 rfl rfl)
theorem dX9_clear_23 : decode cX9_clear 23 = .ok (.aload_n 0, 1) := dk_42 (dk_at dksX9_clear_0 23 rfl rfl)
theorem dX9_clear_24 : decode cX9_clear 24 = .ok (.iload_n 3, 1) := dk_29 (dk_at dksX9_clear_1 0 rfl rfl)
theorem dX9_clear_25 : decode cX9_clear 25 = .ok (.iconst 0, 1) := dk_3 (dk_at dksX9_clear_1 1 rfl rfl)
theorem dX9_clear_26 : decode cX9_clear 26 = .ok (.invokevirtual 106, 3) := dk_182 0 106 (dk_at dksX9_clear_1 2 rfl rfl)
theorem dX9_clear_29 : decode cX9_clear 29 = .ok (.istore 4, 2) := dk_54 4 (dk_at dksX9_clear_1 5 rfl rfl)
theorem dX9_clear_31 : decode cX9_clear 31 = .ok (.aload_n 0, 1) := dk_42 (dk_at dksX9_clear_1 7 rfl rfl)
theorem dX9_clear_32 : decode cX9_clear 32 = .ok (.getfield 9, 3) := dk_180 0 9 (dk_at dksX9_clear_1 8 rfl rfl)
theorem dX9_clear_35 : decode cX9_clear 35 = .ok (.iconst 4, 1) := dk_7 (dk_at dksX9_clear_1 11 rfl rfl)
theorem dX9_clear_36 : decode cX9_clear 36 = .ok (.iaload, 1) := dk_46 (dk_at dksX9_clear_1 12 rfl rfl)
theorem dX9_clear_37 : decode cX9_clear 37 = .ok (.ifCond .le 6, 3) := dk_158 0 6 (dk_at dksX9_clear_1 13 rfl rfl)
theorem dX9_clear_40 : decode cX9_clear 40 = .ok (.bipush (-2), 2) := dk_16 254 (dk_at dksX9_clear_1 16 rfl rfl)
theorem dX9_clear_42 : decode cX9_clear 42 = .ok (.ireturn, 1) := dk_172 (dk_at dksX9_clear_1 18 rfl rfl)
theorem dX9_clear_43 : decode cX9_clear 43 = .ok (.iload 4, 2) := dk_21 4 (dk_at dksX9_clear_1 19 rfl rfl)
theorem dX9_clear_45 : decode cX9_clear 45 = .ok (.ifCond .eq 10, 3) := dk_153 0 10 (dk_at dksX9_clear_1 21 rfl rfl)
theorem dX9_clear_48 : decode cX9_clear 48 = .ok (.iload 4, 2) := dk_21 4 (dk_at dksX9_clear_2 0 rfl rfl)
theorem dX9_clear_50 : decode cX9_clear 50 = .ok (.bipush 7, 2) := dk_16 7 (dk_at dksX9_clear_2 2 rfl rfl)
theorem dX9_clear_52 : decode cX9_clear 52 = .ok (.if_icmp .ne 6, 3) := dk_160 0 6 (dk_at dksX9_clear_2 4 rfl rfl)
theorem dX9_clear_55 : decode cX9_clear 55 = .ok (.bipush (-5), 2) := dk_16 251 (dk_at dksX9_clear_2 7 rfl rfl)
theorem dX9_clear_57 : decode cX9_clear 57 = .ok (.ireturn, 1) := dk_172 (dk_at dksX9_clear_2 9 rfl rfl)
theorem dX9_clear_58 : decode cX9_clear 58 = .ok (.aload_n 0, 1) := dk_42 (dk_at dksX9_clear_2 10 rfl rfl)
theorem dX9_clear_59 : decode cX9_clear 59 = .ok (.aload_n 0, 1) := dk_42 (dk_at dksX9_clear_2 11 rfl rfl)
theorem dX9_clear_60 : decode cX9_clear 60 = .ok (.getfield 9, 3) := dk_180 0 9 (dk_at dksX9_clear_2 12 rfl rfl)
theorem dX9_clear_63 : decode cX9_clear 63 = .ok (.invokevirtual 187, 3) := dk_182 0 187 (dk_at dksX9_clear_2 15 rfl rfl)
theorem dX9_clear_66 : decode cX9_clear 66 = .ok (.iload 4, 2) := dk_21 4 (dk_at dksX9_clear_2 18 rfl rfl)
theorem dX9_clear_68 : decode cX9_clear 68 = .ok (.bipush 6, 2) := dk_16 6 (dk_at dksX9_clear_2 20 rfl rfl)
theorem dX9_clear_70 : decode cX9_clear 70 = .ok (.if_icmp .ne 13, 3) := dk_160 0 13 (dk_at dksX9_clear_3 0 rfl rfl)
theorem dX9_clear_73 : decode cX9_clear 73 = .ok (.aload_n 0, 1) := dk_42 (dk_at dksX9_clear_3 3 rfl rfl)
theorem dX9_clear_74 : decode cX9_clear 74 = .ok (.aload_n 0, 1) := dk_42 (dk_at dksX9_clear_3 4 rfl rfl)
theorem dX9_clear_75 : decode cX9_clear 75 = .ok (.iload_n 3, 1) := dk_29 (dk_at dksX9_clear_3 5 rfl rfl)
theorem dX9_clear_76 : decode cX9_clear 76 = .ok (.iconst 1, 1) := dk_4 (dk_at dksX9_clear_3 6 rfl rfl)
theorem dX9_clear_77 : decode cX9_clear 77 = .ok (.invokevirtual 106, 3) := dk_182 0 106 (dk_at dksX9_clear_3 7 rfl rfl)
theorem dX9_clear_80 : decode cX9_clear 80 = .ok (.invokevirtual 87, 3) := dk_182 0 87 (dk_at dksX9_clear_3 10 rfl rfl)
theorem dX9_clear_83 : decode cX9_clear 83 = .ok (.aload_n 0, 1) := dk_42 (dk_at dksX9_clear_3 13 rfl rfl)
theorem dX9_clear_84 : decode cX9_clear 84 = .ok (.iload_n 3, 1) := dk_29 (dk_at dksX9_clear_3 14 rfl rfl)
theorem dX9_clear_85 : decode cX9_clear 85 = .ok (.invokevirtual 87, 3) := dk_182 0 87 (dk_at dksX9_clear_3 15 rfl rfl)
theorem dX9_clear_88 : decode cX9_clear 88 = .ok (.aload_n 0, 1) := dk_42 (dk_at dksX9_clear_3 18 rfl rfl)
theorem dX9_clear_89 : decode cX9_clear 89 = .ok (.invokevirtual 79, 3) := dk_182 0 79 (dk_at dksX9_clear_3 19 rfl rfl)
theorem dX9_clear_92 : decode cX9_clear 92 = .ok (.pop, 1) := dk_87 (dk_at dksX9_clear_3 22 rfl rfl)
theorem dX9_clear_93 : decode cX9_clear 93 = .ok (.iload 4, 2) := dk_21 4 (dk_at dksX9_clear_4 0 rfl rfl)
theorem dX9_clear_95 : decode cX9_clear 95 = .ok (.ireturn, 1) := dk_172 (dk_at dksX9_clear_4 2 rfl rfl)
abbrev cX9_setLamp : ByteArray := prog_15_method_51_code
def yX9_setLamp : MethodName := ⟨RX9, "setLamp", "(III)I"⟩
def dkwX9_setLamp_4 : List UInt8 := [182, 0, 87, 42, 27, 28, 16, 7, 29, 3, 182, 0, 75, 42, 182, 0, 79, 87, 21, 5, 172]
abbrev dktX9_setLamp_4 : List UInt8 := dkwX9_setLamp_4 ++ []
def dkwX9_setLamp_3 : List UInt8 := [180, 0, 9, 182, 0, 187, 42, 42, 182, 0, 143, 4, 182, 0, 106, 54, 5, 42, 42, 182, 0, 143]
abbrev dktX9_setLamp_3 : List UInt8 := dkwX9_setLamp_3 ++ dktX9_setLamp_4
def dkwX9_setLamp_2 : List UInt8 := [3, 182, 0, 106, 54, 4, 21, 4, 153, 0, 13, 21, 4, 16, 7, 159, 0, 6, 16, 253, 172, 42, 42]
abbrev dktX9_setLamp_2 : List UInt8 := dkwX9_setLamp_2 ++ dktX9_setLamp_3
def dkwX9_setLamp_1 : List UInt8 := [153, 0, 5, 3, 172, 42, 180, 0, 9, 7, 46, 158, 0, 6, 16, 254, 172, 42, 42, 27, 28, 182, 0, 102]
abbrev dktX9_setLamp_1 : List UInt8 := dkwX9_setLamp_1 ++ dktX9_setLamp_2
def dkwX9_setLamp_0 : List UInt8 := [42, 3, 181, 0, 83, 42, 27, 28, 182, 0, 191, 154, 0, 14, 42, 29, 3, 6, 5, 182, 0, 201]
abbrev dktX9_setLamp_0 : List UInt8 := dkwX9_setLamp_0 ++ dktX9_setLamp_1
theorem dksX9_setLamp_0 : cX9_setLamp.data.toList.drop 0 = dktX9_setLamp_0 := by decide +kernel
theorem dksX9_setLamp_1 : cX9_setLamp.data.toList.drop 22 = dktX9_setLamp_1 := dk_seg dksX9_setLamp_0 22 rfl rfl
theorem dksX9_setLamp_2 : cX9_setLamp.data.toList.drop 46 = dktX9_setLamp_2 := dk_seg dksX9_setLamp_1 24 rfl rfl
theorem dksX9_setLamp_3 : cX9_setLamp.data.toList.drop 69 = dktX9_setLamp_3 := dk_seg dksX9_setLamp_2 23 rfl rfl
theorem dksX9_setLamp_4 : cX9_setLamp.data.toList.drop 91 = dktX9_setLamp_4 := dk_seg dksX9_setLamp_3 22 rfl rfl
theorem dX9_setLamp_0 : decode cX9_setLamp 0 = .ok (.aload_n 0, 1) := dk_42 (dk_at dksX9_setLamp_0 0 rfl rfl)
theorem dX9_setLamp_1 : decode cX9_setLamp 1 = .ok (.iconst 0, 1) := dk_3 (dk_at dksX9_setLamp_0 1 rfl rfl)
theorem dX9_setLamp_2 : decode cX9_setLamp 2 = .ok (.putfield 83, 3) := dk_181 0 83 (dk_at dksX9_setLamp_0 2 rfl rfl)
theorem dX9_setLamp_5 : decode cX9_setLamp 5 = .ok (.aload_n 0, 1) := dk_42 (dk_at dksX9_setLamp_0 5 rfl rfl)
theorem dX9_setLamp_6 : decode cX9_setLamp 6 = .ok (.iload_n 1, 1) := dk_27 (dk_at dksX9_setLamp_0 6 rfl rfl)
theorem dX9_setLamp_7 : decode cX9_setLamp 7 = .ok (.iload_n 2, 1) := dk_28 (dk_at dksX9_setLamp_0 7 rfl rfl)
theorem dX9_setLamp_8 : decode cX9_setLamp 8 = .ok (.invokevirtual 191, 3) := dk_182 0 191 (dk_at dksX9_setLamp_0 8 rfl rfl)
theorem dX9_setLamp_11 : decode cX9_setLamp 11 = .ok (.ifCond .ne 14, 3) := dk_154 0 14 (dk_at dksX9_setLamp_0 11 rfl rfl)
theorem dX9_setLamp_14 : decode cX9_setLamp 14 = .ok (.aload_n 0, 1) := dk_42 (dk_at dksX9_setLamp_0 14 rfl rfl)
theorem dX9_setLamp_15 : decode cX9_setLamp 15 = .ok (.iload_n 3, 1) := dk_29 (dk_at dksX9_setLamp_0 15 rfl rfl)
theorem dX9_setLamp_16 : decode cX9_setLamp 16 = .ok (.iconst 0, 1) := dk_3 (dk_at dksX9_setLamp_0 16 rfl rfl)
theorem dX9_setLamp_17 : decode cX9_setLamp 17 = .ok (.iconst 3, 1) := dk_6 (dk_at dksX9_setLamp_0 17 rfl rfl)
theorem dX9_setLamp_18 : decode cX9_setLamp 18 = .ok (.iconst 2, 1) := dk_5 (dk_at dksX9_setLamp_0 18 rfl rfl)
theorem dX9_setLamp_19 : decode cX9_setLamp 19 = .ok (.invokevirtual 201, 3) := dk_182 0 201 (dk_at dksX9_setLamp_0 19 rfl rfl)
theorem dX9_setLamp_22 : decode cX9_setLamp 22 = .ok (.ifCond .eq 5, 3) := dk_153 0 5 (dk_at dksX9_setLamp_1 0 rfl rfl)
theorem dX9_setLamp_25 : decode cX9_setLamp 25 = .ok (.iconst 0, 1) := dk_3 (dk_at dksX9_setLamp_1 3 rfl rfl)
theorem dX9_setLamp_26 : decode cX9_setLamp 26 = .ok (.ireturn, 1) := dk_172 (dk_at dksX9_setLamp_1 4 rfl rfl)
theorem dX9_setLamp_27 : decode cX9_setLamp 27 = .ok (.aload_n 0, 1) := dk_42 (dk_at dksX9_setLamp_1 5 rfl rfl)
theorem dX9_setLamp_28 : decode cX9_setLamp 28 = .ok (.getfield 9, 3) := dk_180 0 9 (dk_at dksX9_setLamp_1 6 rfl rfl)
theorem dX9_setLamp_31 : decode cX9_setLamp 31 = .ok (.iconst 4, 1) := dk_7 (dk_at dksX9_setLamp_1 9 rfl rfl)
theorem dX9_setLamp_32 : decode cX9_setLamp 32 = .ok (.iaload, 1) := dk_46 (dk_at dksX9_setLamp_1 10 rfl rfl)
theorem dX9_setLamp_33 : decode cX9_setLamp 33 = .ok (.ifCond .le 6, 3) := dk_158 0 6 (dk_at dksX9_setLamp_1 11 rfl rfl)
theorem dX9_setLamp_36 : decode cX9_setLamp 36 = .ok (.bipush (-2), 2) := dk_16 254 (dk_at dksX9_setLamp_1 14 rfl rfl)
theorem dX9_setLamp_38 : decode cX9_setLamp 38 = .ok (.ireturn, 1) := dk_172 (dk_at dksX9_setLamp_1 16 rfl rfl)
theorem dX9_setLamp_39 : decode cX9_setLamp 39 = .ok (.aload_n 0, 1) := dk_42 (dk_at dksX9_setLamp_1 17 rfl rfl)
theorem dX9_setLamp_40 : decode cX9_setLamp 40 = .ok (.aload_n 0, 1) := dk_42 (dk_at dksX9_setLamp_1 18 rfl rfl)
theorem dX9_setLamp_41 : decode cX9_setLamp 41 = .ok (.iload_n 1, 1) := dk_27 (dk_at dksX9_setLamp_1 19 rfl rfl)
theorem dX9_setLamp_42 : decode cX9_setLamp 42 = .ok (.iload_n 2, 1) := dk_28 (dk_at dksX9_setLamp_1 20 rfl rfl)
theorem dX9_setLamp_43 : decode cX9_setLamp 43 = .ok (.invokevirtual 102, 3) := dk_182 0 102 (dk_at dksX9_setLamp_1 21 rfl rfl)
theorem dX9_setLamp_46 : decode cX9_setLamp 46 = .ok (.iconst 0, 1) := dk_3 (dk_at dksX9_setLamp_2 0 rfl rfl)
theorem dX9_setLamp_47 : decode cX9_setLamp 47 = .ok (.invokevirtual 106, 3) := dk_182 0 106 (dk_at dksX9_setLamp_2 1 rfl rfl)
theorem dX9_setLamp_50 : decode cX9_setLamp 50 = .ok (.istore 4, 2) := dk_54 4 (dk_at dksX9_setLamp_2 4 rfl rfl)
theorem dX9_setLamp_52 : decode cX9_setLamp 52 = .ok (.iload 4, 2) := dk_21 4 (dk_at dksX9_setLamp_2 6 rfl rfl)
theorem dX9_setLamp_54 : decode cX9_setLamp 54 = .ok (.ifCond .eq 13, 3) := dk_153 0 13 (dk_at dksX9_setLamp_2 8 rfl rfl)
theorem dX9_setLamp_57 : decode cX9_setLamp 57 = .ok (.iload 4, 2) := dk_21 4 (dk_at dksX9_setLamp_2 11 rfl rfl)
theorem dX9_setLamp_59 : decode cX9_setLamp 59 = .ok (.bipush 7, 2) := dk_16 7 (dk_at dksX9_setLamp_2 13 rfl rfl)
theorem dX9_setLamp_61 : decode cX9_setLamp 61 = .ok (.if_icmp .eq 6, 3) := dk_159 0 6 (dk_at dksX9_setLamp_2 15 rfl rfl)
theorem dX9_setLamp_64 : decode cX9_setLamp 64 = .ok (.bipush (-3), 2) := dk_16 253 (dk_at dksX9_setLamp_2 18 rfl rfl)
theorem dX9_setLamp_66 : decode cX9_setLamp 66 = .ok (.ireturn, 1) := dk_172 (dk_at dksX9_setLamp_2 20 rfl rfl)
theorem dX9_setLamp_67 : decode cX9_setLamp 67 = .ok (.aload_n 0, 1) := dk_42 (dk_at dksX9_setLamp_2 21 rfl rfl)
theorem dX9_setLamp_68 : decode cX9_setLamp 68 = .ok (.aload_n 0, 1) := dk_42 (dk_at dksX9_setLamp_2 22 rfl rfl)
theorem dX9_setLamp_69 : decode cX9_setLamp 69 = .ok (.getfield 9, 3) := dk_180 0 9 (dk_at dksX9_setLamp_3 0 rfl rfl)
theorem dX9_setLamp_72 : decode cX9_setLamp 72 = .ok (.invokevirtual 187, 3) := dk_182 0 187 (dk_at dksX9_setLamp_3 3 rfl rfl)
theorem dX9_setLamp_75 : decode cX9_setLamp 75 = .ok (.aload_n 0, 1) := dk_42 (dk_at dksX9_setLamp_3 6 rfl rfl)
theorem dX9_setLamp_76 : decode cX9_setLamp 76 = .ok (.aload_n 0, 1) := dk_42 (dk_at dksX9_setLamp_3 7 rfl rfl)
theorem dX9_setLamp_77 : decode cX9_setLamp 77 = .ok (.invokevirtual 143, 3) := dk_182 0 143 (dk_at dksX9_setLamp_3 8 rfl rfl)
theorem dX9_setLamp_80 : decode cX9_setLamp 80 = .ok (.iconst 1, 1) := dk_4 (dk_at dksX9_setLamp_3 11 rfl rfl)
theorem dX9_setLamp_81 : decode cX9_setLamp 81 = .ok (.invokevirtual 106, 3) := dk_182 0 106 (dk_at dksX9_setLamp_3 12 rfl rfl)
theorem dX9_setLamp_84 : decode cX9_setLamp 84 = .ok (.istore 5, 2) := dk_54 5 (dk_at dksX9_setLamp_3 15 rfl rfl)
theorem dX9_setLamp_86 : decode cX9_setLamp 86 = .ok (.aload_n 0, 1) := dk_42 (dk_at dksX9_setLamp_3 17 rfl rfl)
theorem dX9_setLamp_87 : decode cX9_setLamp 87 = .ok (.aload_n 0, 1) := dk_42 (dk_at dksX9_setLamp_3 18 rfl rfl)
theorem dX9_setLamp_88 : decode cX9_setLamp 88 = .ok (.invokevirtual 143, 3) := dk_182 0 143 (dk_at dksX9_setLamp_3 19 rfl rfl)
theorem dX9_setLamp_91 : decode cX9_setLamp 91 = .ok (.invokevirtual 87, 3) := dk_182 0 87 (dk_at dksX9_setLamp_4 0 rfl rfl)
theorem dX9_setLamp_94 : decode cX9_setLamp 94 = .ok (.aload_n 0, 1) := dk_42 (dk_at dksX9_setLamp_4 3 rfl rfl)
theorem dX9_setLamp_95 : decode cX9_setLamp 95 = .ok (.iload_n 1, 1) := dk_27 (dk_at dksX9_setLamp_4 4 rfl rfl)
theorem dX9_setLamp_96 : decode cX9_setLamp 96 = .ok (.iload_n 2, 1) := dk_28 (dk_at dksX9_setLamp_4 5 rfl rfl)
theorem dX9_setLamp_97 : decode cX9_setLamp 97 = .ok (.bipush 7, 2) := dk_16 7 (dk_at dksX9_setLamp_4 6 rfl rfl)
theorem dX9_setLamp_99 : decode cX9_setLamp 99 = .ok (.iload_n 3, 1) := dk_29 (dk_at dksX9_setLamp_4 8 rfl rfl)
theorem dX9_setLamp_100 : decode cX9_setLamp 100 = .ok (.iconst 0, 1) := dk_3 (dk_at dksX9_setLamp_4 9 rfl rfl)
theorem dX9_setLamp_101 : decode cX9_setLamp 101 = .ok (.invokevirtual 75, 3) := dk_182 0 75 (dk_at dksX9_setLamp_4 10 rfl rfl)
theorem dX9_setLamp_104 : decode cX9_setLamp 104 = .ok (.aload_n 0, 1) := dk_42 (dk_at dksX9_setLamp_4 13 rfl rfl)
theorem dX9_setLamp_105 : decode cX9_setLamp 105 = .ok (.invokevirtual 79, 3) := dk_182 0 79 (dk_at dksX9_setLamp_4 14 rfl rfl)
theorem dX9_setLamp_108 : decode cX9_setLamp 108 = .ok (.pop, 1) := dk_87 (dk_at dksX9_setLamp_4 17 rfl rfl)
theorem dX9_setLamp_109 : decode cX9_setLamp 109 = .ok (.iload 5, 2) := dk_21 5 (dk_at dksX9_setLamp_4 18 rfl rfl)
theorem dX9_setLamp_111 : decode cX9_setLamp 111 = .ok (.ireturn, 1) := dk_172 (dk_at dksX9_setLamp_4 20 rfl rfl)
abbrev cX9_set : ByteArray := prog_15_method_52_code
def yX9_set : MethodName := ⟨RX9, "set", "(ZI)I"⟩
def dkwX9_set_3 : List UInt8 := [46, 54, 4, 42, 180, 0, 9, 29, 28, 79, 21, 4, 172]
abbrev dktX9_set_3 : List UInt8 := dkwX9_set_3 ++ []
def dkwX9_set_2 : List UInt8 := [172, 42, 42, 180, 0, 9, 182, 0, 187, 27, 153, 0, 7, 6, 167, 0, 4, 5, 62, 42, 180, 0, 9, 29]
abbrev dktX9_set_2 : List UInt8 := dkwX9_set_2 ++ dktX9_set_3
def dkwX9_set_1 : List UInt8 := [167, 0, 4, 6, 4, 182, 0, 201, 153, 0, 5, 3, 172, 42, 180, 0, 9, 7, 46, 158, 0, 6, 16, 254]
abbrev dktX9_set_1 : List UInt8 := dkwX9_set_1 ++ dktX9_set_2
def dkwX9_set_0 : List UInt8 := [42, 3, 181, 0, 83, 42, 28, 27, 153, 0, 7, 4, 167, 0, 4, 3, 27, 153, 0, 8, 16, 99]
abbrev dktX9_set_0 : List UInt8 := dkwX9_set_0 ++ dktX9_set_1
theorem dksX9_set_0 : cX9_set.data.toList.drop 0 = dktX9_set_0 := by decide +kernel
theorem dksX9_set_1 : cX9_set.data.toList.drop 22 = dktX9_set_1 := dk_seg dksX9_set_0 22 rfl rfl
theorem dksX9_set_2 : cX9_set.data.toList.drop 46 = dktX9_set_2 := dk_seg dksX9_set_1 24 rfl rfl
theorem dksX9_set_3 : cX9_set.data.toList.drop 70 = dktX9_set_3 := dk_seg dksX9_set_2 24 rfl rfl
theorem dX9_set_0 : decode cX9_set 0 = .ok (.aload_n 0, 1) := dk_42 (dk_at dksX9_set_0 0 rfl rfl)
theorem dX9_set_1 : decode cX9_set 1 = .ok (.iconst 0, 1) := dk_3 (dk_at dksX9_set_0 1 rfl rfl)
theorem dX9_set_2 : decode cX9_set 2 = .ok (.putfield 83, 3) := dk_181 0 83 (dk_at dksX9_set_0 2 rfl rfl)
theorem dX9_set_5 : decode cX9_set 5 = .ok (.aload_n 0, 1) := dk_42 (dk_at dksX9_set_0 5 rfl rfl)
theorem dX9_set_6 : decode cX9_set 6 = .ok (.iload_n 2, 1) := dk_28 (dk_at dksX9_set_0 6 rfl rfl)
theorem dX9_set_7 : decode cX9_set 7 = .ok (.iload_n 1, 1) := dk_27 (dk_at dksX9_set_0 7 rfl rfl)
theorem dX9_set_8 : decode cX9_set 8 = .ok (.ifCond .eq 7, 3) := dk_153 0 7 (dk_at dksX9_set_0 8 rfl rfl)
theorem dX9_set_11 : decode cX9_set 11 = .ok (.iconst 1, 1) := dk_4 (dk_at dksX9_set_0 11 rfl rfl)
theorem dX9_set_12 : decode cX9_set 12 = .ok (.goto 4, 3) := dk_167 0 4 (dk_at dksX9_set_0 12 rfl rfl)
theorem dX9_set_15 : decode cX9_set 15 = .ok (.iconst 0, 1) := dk_3 (dk_at dksX9_set_0 15 rfl rfl)
theorem dX9_set_16 : decode cX9_set 16 = .ok (.iload_n 1, 1) := dk_27 (dk_at dksX9_set_0 16 rfl rfl)
theorem dX9_set_17 : decode cX9_set 17 = .ok (.ifCond .eq 8, 3) := dk_153 0 8 (dk_at dksX9_set_0 17 rfl rfl)
theorem dX9_set_20 : decode cX9_set 20 = .ok (.bipush 99, 2) := dk_16 99 (dk_at dksX9_set_0 20 rfl rfl)
theorem dX9_set_22 : decode cX9_set 22 = .ok (.goto 4, 3) := dk_167 0 4 (dk_at dksX9_set_1 0 rfl rfl)
theorem dX9_set_25 : decode cX9_set 25 = .ok (.iconst 3, 1) := dk_6 (dk_at dksX9_set_1 3 rfl rfl)
theorem dX9_set_26 : decode cX9_set 26 = .ok (.iconst 1, 1) := dk_4 (dk_at dksX9_set_1 4 rfl rfl)
theorem dX9_set_27 : decode cX9_set 27 = .ok (.invokevirtual 201, 3) := dk_182 0 201 (dk_at dksX9_set_1 5 rfl rfl)
theorem dX9_set_30 : decode cX9_set 30 = .ok (.ifCond .eq 5, 3) := dk_153 0 5 (dk_at dksX9_set_1 8 rfl rfl)
theorem dX9_set_33 : decode cX9_set 33 = .ok (.iconst 0, 1) := dk_3 (dk_at dksX9_set_1 11 rfl rfl)
theorem dX9_set_34 : decode cX9_set 34 = .ok (.ireturn, 1) := dk_172 (dk_at dksX9_set_1 12 rfl rfl)
theorem dX9_set_35 : decode cX9_set 35 = .ok (.aload_n 0, 1) := dk_42 (dk_at dksX9_set_1 13 rfl rfl)
theorem dX9_set_36 : decode cX9_set 36 = .ok (.getfield 9, 3) := dk_180 0 9 (dk_at dksX9_set_1 14 rfl rfl)
theorem dX9_set_39 : decode cX9_set 39 = .ok (.iconst 4, 1) := dk_7 (dk_at dksX9_set_1 17 rfl rfl)
theorem dX9_set_40 : decode cX9_set 40 = .ok (.iaload, 1) := dk_46 (dk_at dksX9_set_1 18 rfl rfl)
theorem dX9_set_41 : decode cX9_set 41 = .ok (.ifCond .le 6, 3) := dk_158 0 6 (dk_at dksX9_set_1 19 rfl rfl)
theorem dX9_set_44 : decode cX9_set 44 = .ok (.bipush (-2), 2) := dk_16 254 (dk_at dksX9_set_1 22 rfl rfl)
theorem dX9_set_46 : decode cX9_set 46 = .ok (.ireturn, 1) := dk_172 (dk_at dksX9_set_2 0 rfl rfl)
theorem dX9_set_47 : decode cX9_set 47 = .ok (.aload_n 0, 1) := dk_42 (dk_at dksX9_set_2 1 rfl rfl)
theorem dX9_set_48 : decode cX9_set 48 = .ok (.aload_n 0, 1) := dk_42 (dk_at dksX9_set_2 2 rfl rfl)
theorem dX9_set_49 : decode cX9_set 49 = .ok (.getfield 9, 3) := dk_180 0 9 (dk_at dksX9_set_2 3 rfl rfl)
theorem dX9_set_52 : decode cX9_set 52 = .ok (.invokevirtual 187, 3) := dk_182 0 187 (dk_at dksX9_set_2 6 rfl rfl)
theorem dX9_set_55 : decode cX9_set 55 = .ok (.iload_n 1, 1) := dk_27 (dk_at dksX9_set_2 9 rfl rfl)
theorem dX9_set_56 : decode cX9_set 56 = .ok (.ifCond .eq 7, 3) := dk_153 0 7 (dk_at dksX9_set_2 10 rfl rfl)
theorem dX9_set_59 : decode cX9_set 59 = .ok (.iconst 3, 1) := dk_6 (dk_at dksX9_set_2 13 rfl rfl)
theorem dX9_set_60 : decode cX9_set 60 = .ok (.goto 4, 3) := dk_167 0 4 (dk_at dksX9_set_2 14 rfl rfl)
theorem dX9_set_63 : decode cX9_set 63 = .ok (.iconst 2, 1) := dk_5 (dk_at dksX9_set_2 17 rfl rfl)
theorem dX9_set_64 : decode cX9_set 64 = .ok (.istore_n 3, 1) := dk_62 (dk_at dksX9_set_2 18 rfl rfl)
theorem dX9_set_65 : decode cX9_set 65 = .ok (.aload_n 0, 1) := dk_42 (dk_at dksX9_set_2 19 rfl rfl)
theorem dX9_set_66 : decode cX9_set 66 = .ok (.getfield 9, 3) := dk_180 0 9 (dk_at dksX9_set_2 20 rfl rfl)
theorem dX9_set_69 : decode cX9_set 69 = .ok (.iload_n 3, 1) := dk_29 (dk_at dksX9_set_2 23 rfl rfl)
theorem dX9_set_70 : decode cX9_set 70 = .ok (.iaload, 1) := dk_46 (dk_at dksX9_set_3 0 rfl rfl)
theorem dX9_set_71 : decode cX9_set 71 = .ok (.istore 4, 2) := dk_54 4 (dk_at dksX9_set_3 1 rfl rfl)
theorem dX9_set_73 : decode cX9_set 73 = .ok (.aload_n 0, 1) := dk_42 (dk_at dksX9_set_3 3 rfl rfl)
theorem dX9_set_74 : decode cX9_set 74 = .ok (.getfield 9, 3) := dk_180 0 9 (dk_at dksX9_set_3 4 rfl rfl)
theorem dX9_set_77 : decode cX9_set 77 = .ok (.iload_n 3, 1) := dk_29 (dk_at dksX9_set_3 7 rfl rfl)
theorem dX9_set_78 : decode cX9_set 78 = .ok (.iload_n 2, 1) := dk_28 (dk_at dksX9_set_3 8 rfl rfl)
theorem dX9_set_79 : decode cX9_set 79 = .ok (.iastore, 1) := dk_79 (dk_at dksX9_set_3 9 rfl rfl)
theorem dX9_set_80 : decode cX9_set 80 = .ok (.iload 4, 2) := dk_21 4 (dk_at dksX9_set_3 10 rfl rfl)
theorem dX9_set_82 : decode cX9_set 82 = .ok (.ireturn, 1) := dk_172 (dk_at dksX9_set_3 12 rfl rfl)
abbrev cX9_turn : ByteArray := prog_15_method_53_code
def yX9_turn : MethodName := ⟨RX9, "turn", "(II)I"⟩
def dkwX9_turn_2 : List UInt8 := [182, 0, 102, 182, 0, 212, 172]
abbrev dktX9_turn_2 : List UInt8 := dkwX9_turn_2 ++ []
def dkwX9_turn_1 : List UInt8 := [182, 0, 184, 62, 29, 153, 0, 6, 29, 116, 172, 42, 42, 180, 0, 9, 182, 0, 187, 42, 42, 27, 28]
abbrev dktX9_turn_1 : List UInt8 := dkwX9_turn_1 ++ dktX9_turn_2
def dkwX9_turn_0 : List UInt8 := [42, 3, 181, 0, 83, 42, 27, 28, 182, 0, 191, 153, 0, 5, 3, 172, 42, 42, 27, 28, 182, 0, 102]
abbrev dktX9_turn_0 : List UInt8 := dkwX9_turn_0 ++ dktX9_turn_1
theorem dksX9_turn_0 : cX9_turn.data.toList.drop 0 = dktX9_turn_0 := by decide +kernel
theorem dksX9_turn_1 : cX9_turn.data.toList.drop 23 = dktX9_turn_1 := dk_seg dksX9_turn_0 23 rfl rfl
theorem dksX9_turn_2 : cX9_turn.data.toList.drop 46 = dktX9_turn_2 := dk_seg dksX9_turn_1 23 rfl rfl
theorem dX9_turn_0 : decode cX9_turn 0 = .ok (.aload_n 0, 1) := dk_42 (dk_at dksX9_turn_0 0 rfl rfl)
theorem dX9_turn_1 : decode cX9_turn 1 = .ok (.iconst 0, 1) := dk_3 (dk_at dksX9_turn_0 1 rfl rfl)
theorem dX9_turn_2 : decode cX9_turn 2 = .ok (.putfield 83, 3) := dk_181 0 83 (dk_at dksX9_turn_0 2 rfl rfl)
theorem dX9_turn_5 : decode cX9_turn 5 = .ok (.aload_n 0, 1) := dk_42 (dk_at dksX9_turn_0 5 rfl rfl)
theorem dX9_turn_6 : decode cX9_turn 6 = .ok (.iload_n 1, 1) := dk_27 (dk_at dksX9_turn_0 6 rfl rfl)
theorem dX9_turn_7 : decode cX9_turn 7 = .ok (.iload_n 2, 1) := dk_28 (dk_at dksX9_turn_0 7 rfl rfl)
theorem dX9_turn_8 : decode cX9_turn 8 = .ok (.invokevirtual 191, 3) := dk_182 0 191 (dk_at dksX9_turn_0 8 rfl rfl)
theorem dX9_turn_11 : decode cX9_turn 11 = .ok (.ifCond .eq 5, 3) := dk_153 0 5 (dk_at dksX9_turn_0 11 rfl rfl)
theorem dX9_turn_14 : decode cX9_turn 14 = .ok (.iconst 0, 1) := dk_3 (dk_at dksX9_turn_0 14 rfl rfl)
theorem dX9_turn_15 : decode cX9_turn 15 = .ok (.ireturn, 1) := dk_172 (dk_at dksX9_turn_0 15 rfl rfl)
theorem dX9_turn_16 : decode cX9_turn 16 = .ok (.aload_n 0, 1) := dk_42 (dk_at dksX9_turn_0 16 rfl rfl)
theorem dX9_turn_17 : decode cX9_turn 17 = .ok (.aload_n 0, 1) := dk_42 (dk_at dksX9_turn_0 17 rfl rfl)
theorem dX9_turn_18 : decode cX9_turn 18 = .ok (.iload_n 1, 1) := dk_27 (dk_at dksX9_turn_0 18 rfl rfl)
theorem dX9_turn_19 : decode cX9_turn 19 = .ok (.iload_n 2, 1) := dk_28 (dk_at dksX9_turn_0 19 rfl rfl)
theorem dX9_turn_20 : decode cX9_turn 20 = .ok (.invokevirtual 102, 3) := dk_182 0 102 (dk_at dksX9_turn_0 20 rfl rfl)
theorem dX9_turn_23 : decode cX9_turn 23 = .ok (.invokevirtual 184, 3) := dk_182 0 184 (dk_at dksX9_turn_1 0 rfl rfl)
theorem dX9_turn_26 : decode cX9_turn 26 = .ok (.istore_n 3, 1) := dk_62 (dk_at dksX9_turn_1 3 rfl rfl)
theorem dX9_turn_27 : decode cX9_turn 27 = .ok (.iload_n 3, 1) := dk_29 (dk_at dksX9_turn_1 4 rfl rfl)
theorem dX9_turn_28 : decode cX9_turn 28 = .ok (.ifCond .eq 6, 3) := dk_153 0 6 (dk_at dksX9_turn_1 5 rfl rfl)
theorem dX9_turn_31 : decode cX9_turn 31 = .ok (.iload_n 3, 1) := dk_29 (dk_at dksX9_turn_1 8 rfl rfl)
theorem dX9_turn_32 : decode cX9_turn 32 = .ok (.ineg, 1) := dk_116 (dk_at dksX9_turn_1 9 rfl rfl)
theorem dX9_turn_33 : decode cX9_turn 33 = .ok (.ireturn, 1) := dk_172 (dk_at dksX9_turn_1 10 rfl rfl)
theorem dX9_turn_34 : decode cX9_turn 34 = .ok (.aload_n 0, 1) := dk_42 (dk_at dksX9_turn_1 11 rfl rfl)
theorem dX9_turn_35 : decode cX9_turn 35 = .ok (.aload_n 0, 1) := dk_42 (dk_at dksX9_turn_1 12 rfl rfl)
theorem dX9_turn_36 : decode cX9_turn 36 = .ok (.getfield 9, 3) := dk_180 0 9 (dk_at dksX9_turn_1 13 rfl rfl)
theorem dX9_turn_39 : decode cX9_turn 39 = .ok (.invokevirtual 187, 3) := dk_182 0 187 (dk_at dksX9_turn_1 16 rfl rfl)
theorem dX9_turn_42 : decode cX9_turn 42 = .ok (.aload_n 0, 1) := dk_42 (dk_at dksX9_turn_1 19 rfl rfl)
theorem dX9_turn_43 : decode cX9_turn 43 = .ok (.aload_n 0, 1) := dk_42 (dk_at dksX9_turn_1 20 rfl rfl)
theorem dX9_turn_44 : decode cX9_turn 44 = .ok (.iload_n 1, 1) := dk_27 (dk_at dksX9_turn_1 21 rfl rfl)
theorem dX9_turn_45 : decode cX9_turn 45 = .ok (.iload_n 2, 1) := dk_28 (dk_at dksX9_turn_1 22 rfl rfl)
theorem dX9_turn_46 : decode cX9_turn 46 = .ok (.invokevirtual 102, 3) := dk_182 0 102 (dk_at dksX9_turn_2 0 rfl rfl)
theorem dX9_turn_49 : decode cX9_turn 49 = .ok (.invokevirtual 212, 3) := dk_182 0 212 (dk_at dksX9_turn_2 3 rfl rfl)
theorem dX9_turn_52 : decode cX9_turn 52 = .ok (.ireturn, 1) := dk_172 (dk_at dksX9_turn_2 6 rfl rfl)
abbrev cX9_noTurn : ByteArray := prog_15_method_37_code
def yX9_noTurn : MethodName := ⟨RX9, "noTurn", "(I)I"⟩
def dkwX9_noTurn_2 : List UInt8 := [153, 0, 8, 16, 9, 167, 0, 4, 3, 172]
abbrev dktX9_noTurn_2 : List UInt8 := dkwX9_noTurn_2 ++ []
def dkwX9_noTurn_1 : List UInt8 := [182, 0, 106, 6, 42, 180, 0, 9, 8, 46, 100, 160, 0, 6, 16, 8, 172, 42, 27, 6, 182, 0, 106]
abbrev dktX9_noTurn_1 : List UInt8 := dkwX9_noTurn_1 ++ dktX9_noTurn_2
def dkwX9_noTurn_0 : List UInt8 := [42, 182, 0, 180, 153, 0, 6, 16, 6, 172, 42, 27, 182, 0, 109, 154, 0, 6, 16, 7, 172, 42, 27, 5]
abbrev dktX9_noTurn_0 : List UInt8 := dkwX9_noTurn_0 ++ dktX9_noTurn_1
theorem dksX9_noTurn_0 : cX9_noTurn.data.toList.drop 0 = dktX9_noTurn_0 := by decide +kernel
theorem dksX9_noTurn_1 : cX9_noTurn.data.toList.drop 24 = dktX9_noTurn_1 := dk_seg dksX9_noTurn_0 24 rfl rfl
theorem dksX9_noTurn_2 : cX9_noTurn.data.toList.drop 47 = dktX9_noTurn_2 := dk_seg dksX9_noTurn_1 23 rfl rfl
theorem dX9_noTurn_0 : decode cX9_noTurn 0 = .ok (.aload_n 0, 1) := dk_42 (dk_at dksX9_noTurn_0 0 rfl rfl)
theorem dX9_noTurn_1 : decode cX9_noTurn 1 = .ok (.invokevirtual 180, 3) := dk_182 0 180 (dk_at dksX9_noTurn_0 1 rfl rfl)
theorem dX9_noTurn_4 : decode cX9_noTurn 4 = .ok (.ifCond .eq 6, 3) := dk_153 0 6 (dk_at dksX9_noTurn_0 4 rfl rfl)
theorem dX9_noTurn_7 : decode cX9_noTurn 7 = .ok (.bipush 6, 2) := dk_16 6 (dk_at dksX9_noTurn_0 7 rfl rfl)
theorem dX9_noTurn_9 : decode cX9_noTurn 9 = .ok (.ireturn, 1) := dk_172 (dk_at dksX9_noTurn_0 9 rfl rfl)
theorem dX9_noTurn_10 : decode cX9_noTurn 10 = .ok (.aload_n 0, 1) := dk_42 (dk_at dksX9_noTurn_0 10 rfl rfl)
theorem dX9_noTurn_11 : decode cX9_noTurn 11 = .ok (.iload_n 1, 1) := dk_27 (dk_at dksX9_noTurn_0 11 rfl rfl)
theorem dX9_noTurn_12 : decode cX9_noTurn 12 = .ok (.invokevirtual 109, 3) := dk_182 0 109 (dk_at dksX9_noTurn_0 12 rfl rfl)
theorem dX9_noTurn_15 : decode cX9_noTurn 15 = .ok (.ifCond .ne 6, 3) := dk_154 0 6 (dk_at dksX9_noTurn_0 15 rfl rfl)
theorem dX9_noTurn_18 : decode cX9_noTurn 18 = .ok (.bipush 7, 2) := dk_16 7 (dk_at dksX9_noTurn_0 18 rfl rfl)
theorem dX9_noTurn_20 : decode cX9_noTurn 20 = .ok (.ireturn, 1) := dk_172 (dk_at dksX9_noTurn_0 20 rfl rfl)
theorem dX9_noTurn_21 : decode cX9_noTurn 21 = .ok (.aload_n 0, 1) := dk_42 (dk_at dksX9_noTurn_0 21 rfl rfl)
theorem dX9_noTurn_22 : decode cX9_noTurn 22 = .ok (.iload_n 1, 1) := dk_27 (dk_at dksX9_noTurn_0 22 rfl rfl)
theorem dX9_noTurn_23 : decode cX9_noTurn 23 = .ok (.iconst 2, 1) := dk_5 (dk_at dksX9_noTurn_0 23 rfl rfl)
theorem dX9_noTurn_24 : decode cX9_noTurn 24 = .ok (.invokevirtual 106, 3) := dk_182 0 106 (dk_at dksX9_noTurn_1 0 rfl rfl)
theorem dX9_noTurn_27 : decode cX9_noTurn 27 = .ok (.iconst 3, 1) := dk_6 (dk_at dksX9_noTurn_1 3 rfl rfl)
theorem dX9_noTurn_28 : decode cX9_noTurn 28 = .ok (.aload_n 0, 1) := dk_42 (dk_at dksX9_noTurn_1 4 rfl rfl)
theorem dX9_noTurn_29 : decode cX9_noTurn 29 = .ok (.getfield 9, 3) := dk_180 0 9 (dk_at dksX9_noTurn_1 5 rfl rfl)
theorem dX9_noTurn_32 : decode cX9_noTurn 32 = .ok (.iconst 5, 1) := dk_8 (dk_at dksX9_noTurn_1 8 rfl rfl)
theorem dX9_noTurn_33 : decode cX9_noTurn 33 = .ok (.iaload, 1) := dk_46 (dk_at dksX9_noTurn_1 9 rfl rfl)
theorem dX9_noTurn_34 : decode cX9_noTurn 34 = .ok (.isub, 1) := dk_100 (dk_at dksX9_noTurn_1 10 rfl rfl)
theorem dX9_noTurn_35 : decode cX9_noTurn 35 = .ok (.if_icmp .ne 6, 3) := dk_160 0 6 (dk_at dksX9_noTurn_1 11 rfl rfl)
theorem dX9_noTurn_38 : decode cX9_noTurn 38 = .ok (.bipush 8, 2) := dk_16 8 (dk_at dksX9_noTurn_1 14 rfl rfl)
theorem dX9_noTurn_40 : decode cX9_noTurn 40 = .ok (.ireturn, 1) := dk_172 (dk_at dksX9_noTurn_1 16 rfl rfl)
theorem dX9_noTurn_41 : decode cX9_noTurn 41 = .ok (.aload_n 0, 1) := dk_42 (dk_at dksX9_noTurn_1 17 rfl rfl)
theorem dX9_noTurn_42 : decode cX9_noTurn 42 = .ok (.iload_n 1, 1) := dk_27 (dk_at dksX9_noTurn_1 18 rfl rfl)
theorem dX9_noTurn_43 : decode cX9_noTurn 43 = .ok (.iconst 3, 1) := dk_6 (dk_at dksX9_noTurn_1 19 rfl rfl)
theorem dX9_noTurn_44 : decode cX9_noTurn 44 = .ok (.invokevirtual 106, 3) := dk_182 0 106 (dk_at dksX9_noTurn_1 20 rfl rfl)
theorem dX9_noTurn_47 : decode cX9_noTurn 47 = .ok (.ifCond .eq 8, 3) := dk_153 0 8 (dk_at dksX9_noTurn_2 0 rfl rfl)
theorem dX9_noTurn_50 : decode cX9_noTurn 50 = .ok (.bipush 9, 2) := dk_16 9 (dk_at dksX9_noTurn_2 3 rfl rfl)
theorem dX9_noTurn_52 : decode cX9_noTurn 52 = .ok (.goto 4, 3) := dk_167 0 4 (dk_at dksX9_noTurn_2 5 rfl rfl)
theorem dX9_noTurn_55 : decode cX9_noTurn 55 = .ok (.iconst 0, 1) := dk_3 (dk_at dksX9_noTurn_2 8 rfl rfl)
theorem dX9_noTurn_56 : decode cX9_noTurn 56 = .ok (.ireturn, 1) := dk_172 (dk_at dksX9_noTurn_2 9 rfl rfl)
abbrev cX9_isOver : ByteArray := prog_15_method_35_code
def yX9_isOver : MethodName := ⟨RX9, "isOver", "()Z"⟩
def dkwX9_isOver_1 : List UInt8 := [180, 0, 9, 6, 46, 161, 0, 7, 4, 167, 0, 4, 3, 172]
abbrev dktX9_isOver_1 : List UInt8 := dkwX9_isOver_1 ++ []
def dkwX9_isOver_0 : List UInt8 := [42, 4, 182, 0, 177, 154, 0, 26, 42, 5, 182, 0, 177, 154, 0, 18, 42, 180, 0, 9, 7, 46, 42]
abbrev dktX9_isOver_0 : List UInt8 := dkwX9_isOver_0 ++ dktX9_isOver_1
theorem dksX9_isOver_0 : cX9_isOver.data.toList.drop 0 = dktX9_isOver_0 := by decide +kernel
theorem dksX9_isOver_1 : cX9_isOver.data.toList.drop 23 = dktX9_isOver_1 := dk_seg dksX9_isOver_0 23 rfl rfl
theorem dX9_isOver_0 : decode cX9_isOver 0 = .ok (.aload_n 0, 1) := dk_42 (dk_at dksX9_isOver_0 0 rfl rfl)
theorem dX9_isOver_1 : decode cX9_isOver 1 = .ok (.iconst 1, 1) := dk_4 (dk_at dksX9_isOver_0 1 rfl rfl)
theorem dX9_isOver_2 : decode cX9_isOver 2 = .ok (.invokevirtual 177, 3) := dk_182 0 177 (dk_at dksX9_isOver_0 2 rfl rfl)
theorem dX9_isOver_5 : decode cX9_isOver 5 = .ok (.ifCond .ne 26, 3) := dk_154 0 26 (dk_at dksX9_isOver_0 5 rfl rfl)
theorem dX9_isOver_8 : decode cX9_isOver 8 = .ok (.aload_n 0, 1) := dk_42 (dk_at dksX9_isOver_0 8 rfl rfl)
theorem dX9_isOver_9 : decode cX9_isOver 9 = .ok (.iconst 2, 1) := dk_5 (dk_at dksX9_isOver_0 9 rfl rfl)
theorem dX9_isOver_10 : decode cX9_isOver 10 = .ok (.invokevirtual 177, 3) := dk_182 0 177 (dk_at dksX9_isOver_0 10 rfl rfl)
theorem dX9_isOver_13 : decode cX9_isOver 13 = .ok (.ifCond .ne 18, 3) := dk_154 0 18 (dk_at dksX9_isOver_0 13 rfl rfl)
theorem dX9_isOver_16 : decode cX9_isOver 16 = .ok (.aload_n 0, 1) := dk_42 (dk_at dksX9_isOver_0 16 rfl rfl)
theorem dX9_isOver_17 : decode cX9_isOver 17 = .ok (.getfield 9, 3) := dk_180 0 9 (dk_at dksX9_isOver_0 17 rfl rfl)
theorem dX9_isOver_20 : decode cX9_isOver 20 = .ok (.iconst 4, 1) := dk_7 (dk_at dksX9_isOver_0 20 rfl rfl)
theorem dX9_isOver_21 : decode cX9_isOver 21 = .ok (.iaload, 1) := dk_46 (dk_at dksX9_isOver_0 21 rfl rfl)
theorem dX9_isOver_22 : decode cX9_isOver 22 = .ok (.aload_n 0, 1) := dk_42 (dk_at dksX9_isOver_0 22 rfl rfl)
theorem dX9_isOver_23 : decode cX9_isOver 23 = .ok (.getfield 9, 3) := dk_180 0 9 (dk_at dksX9_isOver_1 0 rfl rfl)
theorem dX9_isOver_26 : decode cX9_isOver 26 = .ok (.iconst 3, 1) := dk_6 (dk_at dksX9_isOver_1 3 rfl rfl)
theorem dX9_isOver_27 : decode cX9_isOver 27 = .ok (.iaload, 1) := dk_46 (dk_at dksX9_isOver_1 4 rfl rfl)
theorem dX9_isOver_28 : decode cX9_isOver 28 = .ok (.if_icmp .lt 7, 3) := dk_161 0 7 (dk_at dksX9_isOver_1 5 rfl rfl)
theorem dX9_isOver_31 : decode cX9_isOver 31 = .ok (.iconst 1, 1) := dk_4 (dk_at dksX9_isOver_1 8 rfl rfl)
theorem dX9_isOver_32 : decode cX9_isOver 32 = .ok (.goto 4, 3) := dk_167 0 4 (dk_at dksX9_isOver_1 9 rfl rfl)
theorem dX9_isOver_35 : decode cX9_isOver 35 = .ok (.iconst 0, 1) := dk_3 (dk_at dksX9_isOver_1 12 rfl rfl)
theorem dX9_isOver_36 : decode cX9_isOver 36 = .ok (.ireturn, 1) := dk_172 (dk_at dksX9_isOver_1 13 rfl rfl)
abbrev cX9_hasAll : ByteArray := prog_15_method_34_code
def yX9_hasAll : MethodName := ⟨RX9, "hasAll", "(I)Z"⟩
def dkwX9_hasAll_1 : List UInt8 := [167, 0, 4, 3, 172]
abbrev dktX9_hasAll_1 : List UInt8 := dkwX9_hasAll_1 ++ []
def dkwX9_hasAll_0 : List UInt8 := [42, 27, 3, 182, 0, 170, 158, 0, 21, 42, 27, 3, 182, 0, 170, 42, 27, 182, 0, 174, 160, 0, 7, 4]
abbrev dktX9_hasAll_0 : List UInt8 := dkwX9_hasAll_0 ++ dktX9_hasAll_1
theorem dksX9_hasAll_0 : cX9_hasAll.data.toList.drop 0 = dktX9_hasAll_0 := by decide +kernel
theorem dksX9_hasAll_1 : cX9_hasAll.data.toList.drop 24 = dktX9_hasAll_1 := dk_seg dksX9_hasAll_0 24 rfl rfl
theorem dX9_hasAll_0 : decode cX9_hasAll 0 = .ok (.aload_n 0, 1) := dk_42 (dk_at dksX9_hasAll_0 0 rfl rfl)
theorem dX9_hasAll_1 : decode cX9_hasAll 1 = .ok (.iload_n 1, 1) := dk_27 (dk_at dksX9_hasAll_0 1 rfl rfl)
theorem dX9_hasAll_2 : decode cX9_hasAll 2 = .ok (.iconst 0, 1) := dk_3 (dk_at dksX9_hasAll_0 2 rfl rfl)
theorem dX9_hasAll_3 : decode cX9_hasAll 3 = .ok (.invokevirtual 170, 3) := dk_182 0 170 (dk_at dksX9_hasAll_0 3 rfl rfl)
theorem dX9_hasAll_6 : decode cX9_hasAll 6 = .ok (.ifCond .le 21, 3) := dk_158 0 21 (dk_at dksX9_hasAll_0 6 rfl rfl)
theorem dX9_hasAll_9 : decode cX9_hasAll 9 = .ok (.aload_n 0, 1) := dk_42 (dk_at dksX9_hasAll_0 9 rfl rfl)
theorem dX9_hasAll_10 : decode cX9_hasAll 10 = .ok (.iload_n 1, 1) := dk_27 (dk_at dksX9_hasAll_0 10 rfl rfl)
theorem dX9_hasAll_11 : decode cX9_hasAll 11 = .ok (.iconst 0, 1) := dk_3 (dk_at dksX9_hasAll_0 11 rfl rfl)
theorem dX9_hasAll_12 : decode cX9_hasAll 12 = .ok (.invokevirtual 170, 3) := dk_182 0 170 (dk_at dksX9_hasAll_0 12 rfl rfl)
theorem dX9_hasAll_15 : decode cX9_hasAll 15 = .ok (.aload_n 0, 1) := dk_42 (dk_at dksX9_hasAll_0 15 rfl rfl)
theorem dX9_hasAll_16 : decode cX9_hasAll 16 = .ok (.iload_n 1, 1) := dk_27 (dk_at dksX9_hasAll_0 16 rfl rfl)
theorem dX9_hasAll_17 : decode cX9_hasAll 17 = .ok (.invokevirtual 174, 3) := dk_182 0 174 (dk_at dksX9_hasAll_0 17 rfl rfl)
theorem dX9_hasAll_20 : decode cX9_hasAll 20 = .ok (.if_icmp .ne 7, 3) := dk_160 0 7 (dk_at dksX9_hasAll_0 20 rfl rfl)
theorem dX9_hasAll_23 : decode cX9_hasAll 23 = .ok (.iconst 1, 1) := dk_4 (dk_at dksX9_hasAll_0 23 rfl rfl)
theorem dX9_hasAll_24 : decode cX9_hasAll 24 = .ok (.goto 4, 3) := dk_167 0 4 (dk_at dksX9_hasAll_1 0 rfl rfl)
theorem dX9_hasAll_27 : decode cX9_hasAll 27 = .ok (.iconst 0, 1) := dk_3 (dk_at dksX9_hasAll_1 3 rfl rfl)
theorem dX9_hasAll_28 : decode cX9_hasAll 28 = .ok (.ireturn, 1) := dk_172 (dk_at dksX9_hasAll_1 4 rfl rfl)
abbrev cX9_doorsOf : ByteArray := prog_15_method_32_code
def yX9_doorsOf : MethodName := ⟨RX9, "doorsOf", "(IZ)I"⟩
def dkwX9_doorsOf_2 : List UInt8 := [159, 0, 7, 4, 167, 0, 4, 3, 96, 62, 132, 4, 1, 167, 255, 202, 29, 172]
abbrev dktX9_doorsOf_2 : List UInt8 := dkwX9_doorsOf_2 ++ []
def dkwX9_doorsOf_1 : List UInt8 := [21, 4, 5, 182, 0, 106, 27, 160, 0, 22, 28, 153, 0, 14, 42, 21, 4, 8, 182, 0, 106, 2]
abbrev dktX9_doorsOf_1 : List UInt8 := dkwX9_doorsOf_1 ++ dktX9_doorsOf_2
def dkwX9_doorsOf_0 : List UInt8 := [3, 62, 3, 54, 4, 21, 4, 16, 100, 162, 0, 53, 29, 42, 21, 4, 7, 182, 0, 116, 153, 0, 33, 42]
abbrev dktX9_doorsOf_0 : List UInt8 := dkwX9_doorsOf_0 ++ dktX9_doorsOf_1
theorem dksX9_doorsOf_0 : cX9_doorsOf.data.toList.drop 0 = dktX9_doorsOf_0 := by decide +kernel
theorem dksX9_doorsOf_1 : cX9_doorsOf.data.toList.drop 24 = dktX9_doorsOf_1 := dk_seg dksX9_doorsOf_0 24 rfl rfl
theorem dksX9_doorsOf_2 : cX9_doorsOf.data.toList.drop 46 = dktX9_doorsOf_2 := dk_seg dksX9_doorsOf_1 22 rfl rfl
theorem dX9_doorsOf_0 : decode cX9_doorsOf 0 = .ok (.iconst 0, 1) := dk_3 (dk_at dksX9_doorsOf_0 0 rfl rfl)
theorem dX9_doorsOf_1 : decode cX9_doorsOf 1 = .ok (.istore_n 3, 1) := dk_62 (dk_at dksX9_doorsOf_0 1 rfl rfl)
theorem dX9_doorsOf_2 : decode cX9_doorsOf 2 = .ok (.iconst 0, 1) := dk_3 (dk_at dksX9_doorsOf_0 2 rfl rfl)
theorem dX9_doorsOf_3 : decode cX9_doorsOf 3 = .ok (.istore 4, 2) := dk_54 4 (dk_at dksX9_doorsOf_0 3 rfl rfl)
theorem dX9_doorsOf_5 : decode cX9_doorsOf 5 = .ok (.iload 4, 2) := dk_21 4 (dk_at dksX9_doorsOf_0 5 rfl rfl)
theorem dX9_doorsOf_7 : decode cX9_doorsOf 7 = .ok (.bipush 100, 2) := dk_16 100 (dk_at dksX9_doorsOf_0 7 rfl rfl)
theorem dX9_doorsOf_9 : decode cX9_doorsOf 9 = .ok (.if_icmp .ge 53, 3) := dk_162 0 53 (dk_at dksX9_doorsOf_0 9 rfl rfl)
theorem dX9_doorsOf_12 : decode cX9_doorsOf 12 = .ok (.iload_n 3, 1) := dk_29 (dk_at dksX9_doorsOf_0 12 rfl rfl)
theorem dX9_doorsOf_13 : decode cX9_doorsOf 13 = .ok (.aload_n 0, 1) := dk_42 (dk_at dksX9_doorsOf_0 13 rfl rfl)
theorem dX9_doorsOf_14 : decode cX9_doorsOf 14 = .ok (.iload 4, 2) := dk_21 4 (dk_at dksX9_doorsOf_0 14 rfl rfl)
theorem dX9_doorsOf_16 : decode cX9_doorsOf 16 = .ok (.iconst 4, 1) := dk_7 (dk_at dksX9_doorsOf_0 16 rfl rfl)
theorem dX9_doorsOf_17 : decode cX9_doorsOf 17 = .ok (.invokevirtual 116, 3) := dk_182 0 116 (dk_at dksX9_doorsOf_0 17 rfl rfl)
theorem dX9_doorsOf_20 : decode cX9_doorsOf 20 = .ok (.ifCond .eq 33, 3) := dk_153 0 33 (dk_at dksX9_doorsOf_0 20 rfl rfl)
theorem dX9_doorsOf_23 : decode cX9_doorsOf 23 = .ok (.aload_n 0, 1) := dk_42 (dk_at dksX9_doorsOf_0 23 rfl rfl)
theorem dX9_doorsOf_24 : decode cX9_doorsOf 24 = .ok (.iload 4, 2) := dk_21 4 (dk_at dksX9_doorsOf_1 0 rfl rfl)
theorem dX9_doorsOf_26 : decode cX9_doorsOf 26 = .ok (.iconst 2, 1) := dk_5 (dk_at dksX9_doorsOf_1 2 rfl rfl)
theorem dX9_doorsOf_27 : decode cX9_doorsOf 27 = .ok (.invokevirtual 106, 3) := dk_182 0 106 (dk_at dksX9_doorsOf_1 3 rfl rfl)
theorem dX9_doorsOf_30 : decode cX9_doorsOf 30 = .ok (.iload_n 1, 1) := dk_27 (dk_at dksX9_doorsOf_1 6 rfl rfl)
theorem dX9_doorsOf_31 : decode cX9_doorsOf 31 = .ok (.if_icmp .ne 22, 3) := dk_160 0 22 (dk_at dksX9_doorsOf_1 7 rfl rfl)
theorem dX9_doorsOf_34 : decode cX9_doorsOf 34 = .ok (.iload_n 2, 1) := dk_28 (dk_at dksX9_doorsOf_1 10 rfl rfl)
theorem dX9_doorsOf_35 : decode cX9_doorsOf 35 = .ok (.ifCond .eq 14, 3) := dk_153 0 14 (dk_at dksX9_doorsOf_1 11 rfl rfl)
theorem dX9_doorsOf_38 : decode cX9_doorsOf 38 = .ok (.aload_n 0, 1) := dk_42 (dk_at dksX9_doorsOf_1 14 rfl rfl)
theorem dX9_doorsOf_39 : decode cX9_doorsOf 39 = .ok (.iload 4, 2) := dk_21 4 (dk_at dksX9_doorsOf_1 15 rfl rfl)
theorem dX9_doorsOf_41 : decode cX9_doorsOf 41 = .ok (.iconst 5, 1) := dk_8 (dk_at dksX9_doorsOf_1 17 rfl rfl)
theorem dX9_doorsOf_42 : decode cX9_doorsOf 42 = .ok (.invokevirtual 106, 3) := dk_182 0 106 (dk_at dksX9_doorsOf_1 18 rfl rfl)
theorem dX9_doorsOf_45 : decode cX9_doorsOf 45 = .ok (.iconst (-1), 1) := dk_2 (dk_at dksX9_doorsOf_1 21 rfl rfl)
theorem dX9_doorsOf_46 : decode cX9_doorsOf 46 = .ok (.if_icmp .eq 7, 3) := dk_159 0 7 (dk_at dksX9_doorsOf_2 0 rfl rfl)
theorem dX9_doorsOf_49 : decode cX9_doorsOf 49 = .ok (.iconst 1, 1) := dk_4 (dk_at dksX9_doorsOf_2 3 rfl rfl)
theorem dX9_doorsOf_50 : decode cX9_doorsOf 50 = .ok (.goto 4, 3) := dk_167 0 4 (dk_at dksX9_doorsOf_2 4 rfl rfl)
theorem dX9_doorsOf_53 : decode cX9_doorsOf 53 = .ok (.iconst 0, 1) := dk_3 (dk_at dksX9_doorsOf_2 7 rfl rfl)
theorem dX9_doorsOf_54 : decode cX9_doorsOf 54 = .ok (.iadd, 1) := dk_96 (dk_at dksX9_doorsOf_2 8 rfl rfl)
theorem dX9_doorsOf_55 : decode cX9_doorsOf 55 = .ok (.istore_n 3, 1) := dk_62 (dk_at dksX9_doorsOf_2 9 rfl rfl)
theorem dX9_doorsOf_56 : decode cX9_doorsOf 56 = .ok (.iinc 4 1, 3) := dk_132 4 1 (dk_at dksX9_doorsOf_2 10 rfl rfl)
theorem dX9_doorsOf_59 : decode cX9_doorsOf 59 = .ok (.goto (-54), 3) := dk_167 255 202 (dk_at dksX9_doorsOf_2 13 rfl rfl)
theorem dX9_doorsOf_62 : decode cX9_doorsOf 62 = .ok (.iload_n 3, 1) := dk_29 (dk_at dksX9_doorsOf_2 16 rfl rfl)
theorem dX9_doorsOf_63 : decode cX9_doorsOf 63 = .ok (.ireturn, 1) := dk_172 (dk_at dksX9_doorsOf_2 17 rfl rfl)
abbrev cX9_points : ByteArray := prog_15_method_33_code
def yX9_points : MethodName := ⟨RX9, "points", "(I)I"⟩
def dkwX9_points_0 : List UInt8 := [42, 27, 4, 182, 0, 170, 172]
abbrev dktX9_points_0 : List UInt8 := dkwX9_points_0 ++ []
theorem dksX9_points_0 : cX9_points.data.toList.drop 0 = dktX9_points_0 := by decide +kernel
theorem dX9_points_0 : decode cX9_points 0 = .ok (.aload_n 0, 1) := dk_42 (dk_at dksX9_points_0 0 rfl rfl)
theorem dX9_points_1 : decode cX9_points 1 = .ok (.iload_n 1, 1) := dk_27 (dk_at dksX9_points_0 1 rfl rfl)
theorem dX9_points_2 : decode cX9_points 2 = .ok (.iconst 1, 1) := dk_4 (dk_at dksX9_points_0 2 rfl rfl)
theorem dX9_points_3 : decode cX9_points 3 = .ok (.invokevirtual 170, 3) := dk_182 0 170 (dk_at dksX9_points_0 3 rfl rfl)
theorem dX9_points_6 : decode cX9_points 6 = .ok (.ireturn, 1) := dk_172 (dk_at dksX9_points_0 6 rfl rfl)
abbrev cX9_move : ByteArray := prog_15_method_39_code
def yX9_move : MethodName := ⟨RX9, "move", "(I)I"⟩
def dkwX9_move_4 : List UInt8 := [4, 96, 79, 42, 180, 0, 9, 8, 6, 42, 180, 0, 9, 8, 46, 100, 79, 42, 182, 0, 79, 172]
abbrev dktX9_move_4 : List UInt8 := dkwX9_move_4 ++ []
def dkwX9_move_3 : List UInt8 := [182, 0, 98, 42, 27, 7, 42, 27, 7, 182, 0, 106, 4, 96, 182, 0, 98, 42, 180, 0, 9, 7, 92, 46]
abbrev dktX9_move_3 : List UInt8 := dkwX9_move_3 ++ dktX9_move_4
def dkwX9_move_2 : List UInt8 := [27, 4, 4, 42, 27, 4, 182, 0, 106, 100, 182, 0, 98, 42, 27, 6, 42, 180, 0, 9, 5, 46]
abbrev dktX9_move_2 : List UInt8 := dkwX9_move_2 ++ dktX9_move_3
def dkwX9_move_1 : List UInt8 := [182, 0, 106, 4, 100, 167, 0, 4, 3, 182, 0, 98, 132, 2, 1, 167, 255, 220, 27, 2, 159, 0, 43, 42]
abbrev dktX9_move_1 : List UInt8 := dkwX9_move_1 ++ dktX9_move_2
def dkwX9_move_0 : List UInt8 := [3, 61, 28, 16, 100, 162, 0, 36, 42, 28, 6, 42, 28, 6, 182, 0, 106, 158, 0, 14, 42, 28, 6]
abbrev dktX9_move_0 : List UInt8 := dkwX9_move_0 ++ dktX9_move_1
theorem dksX9_move_0 : cX9_move.data.toList.drop 0 = dktX9_move_0 := by decide +kernel
theorem dksX9_move_1 : cX9_move.data.toList.drop 23 = dktX9_move_1 := dk_seg dksX9_move_0 23 rfl rfl
theorem dksX9_move_2 : cX9_move.data.toList.drop 47 = dktX9_move_2 := dk_seg dksX9_move_1 24 rfl rfl
theorem dksX9_move_3 : cX9_move.data.toList.drop 69 = dktX9_move_3 := dk_seg dksX9_move_2 22 rfl rfl
theorem dksX9_move_4 : cX9_move.data.toList.drop 93 = dktX9_move_4 := dk_seg dksX9_move_3 24 rfl rfl
theorem dX9_move_0 : decode cX9_move 0 = .ok (.iconst 0, 1) := dk_3 (dk_at dksX9_move_0 0 rfl rfl)
theorem dX9_move_1 : decode cX9_move 1 = .ok (.istore_n 2, 1) := dk_61 (dk_at dksX9_move_0 1 rfl rfl)
theorem dX9_move_2 : decode cX9_move 2 = .ok (.iload_n 2, 1) := dk_28 (dk_at dksX9_move_0 2 rfl rfl)
theorem dX9_move_3 : decode cX9_move 3 = .ok (.bipush 100, 2) := dk_16 100 (dk_at dksX9_move_0 3 rfl rfl)
theorem dX9_move_5 : decode cX9_move 5 = .ok (.if_icmp .ge 36, 3) := dk_162 0 36 (dk_at dksX9_move_0 5 rfl rfl)
theorem dX9_move_8 : decode cX9_move 8 = .ok (.aload_n 0, 1) := dk_42 (dk_at dksX9_move_0 8 rfl rfl)
theorem dX9_move_9 : decode cX9_move 9 = .ok (.iload_n 2, 1) := dk_28 (dk_at dksX9_move_0 9 rfl rfl)
theorem dX9_move_10 : decode cX9_move 10 = .ok (.iconst 3, 1) := dk_6 (dk_at dksX9_move_0 10 rfl rfl)
theorem dX9_move_11 : decode cX9_move 11 = .ok (.aload_n 0, 1) := dk_42 (dk_at dksX9_move_0 11 rfl rfl)
theorem dX9_move_12 : decode cX9_move 12 = .ok (.iload_n 2, 1) := dk_28 (dk_at dksX9_move_0 12 rfl rfl)
theorem dX9_move_13 : decode cX9_move 13 = .ok (.iconst 3, 1) := dk_6 (dk_at dksX9_move_0 13 rfl rfl)
theorem dX9_move_14 : decode cX9_move 14 = .ok (.invokevirtual 106, 3) := dk_182 0 106 (dk_at dksX9_move_0 14 rfl rfl)
theorem dX9_move_17 : decode cX9_move 17 = .ok (.ifCond .le 14, 3) := dk_158 0 14 (dk_at dksX9_move_0 17 rfl rfl)
theorem dX9_move_20 : decode cX9_move 20 = .ok (.aload_n 0, 1) := dk_42 (dk_at dksX9_move_0 20 rfl rfl)
theorem dX9_move_21 : decode cX9_move 21 = .ok (.iload_n 2, 1) := dk_28 (dk_at dksX9_move_0 21 rfl rfl)
theorem dX9_move_22 : decode cX9_move 22 = .ok (.iconst 3, 1) := dk_6 (dk_at dksX9_move_0 22 rfl rfl)
theorem dX9_move_23 : decode cX9_move 23 = .ok (.invokevirtual 106, 3) := dk_182 0 106 (dk_at dksX9_move_1 0 rfl rfl)
theorem dX9_move_26 : decode cX9_move 26 = .ok (.iconst 1, 1) := dk_4 (dk_at dksX9_move_1 3 rfl rfl)
theorem dX9_move_27 : decode cX9_move 27 = .ok (.isub, 1) := dk_100 (dk_at dksX9_move_1 4 rfl rfl)
theorem dX9_move_28 : decode cX9_move 28 = .ok (.goto 4, 3) := dk_167 0 4 (dk_at dksX9_move_1 5 rfl rfl)
theorem dX9_move_31 : decode cX9_move 31 = .ok (.iconst 0, 1) := dk_3 (dk_at dksX9_move_1 8 rfl rfl)
theorem dX9_move_32 : decode cX9_move 32 = .ok (.invokevirtual 98, 3) := dk_182 0 98 (dk_at dksX9_move_1 9 rfl rfl)
theorem dX9_move_35 : decode cX9_move 35 = .ok (.iinc 2 1, 3) := dk_132 2 1 (dk_at dksX9_move_1 12 rfl rfl)
theorem dX9_move_38 : decode cX9_move 38 = .ok (.goto (-36), 3) := dk_167 255 220 (dk_at dksX9_move_1 15 rfl rfl)
theorem dX9_move_41 : decode cX9_move 41 = .ok (.iload_n 1, 1) := dk_27 (dk_at dksX9_move_1 18 rfl rfl)
theorem dX9_move_42 : decode cX9_move 42 = .ok (.iconst (-1), 1) := dk_2 (dk_at dksX9_move_1 19 rfl rfl)
theorem dX9_move_43 : decode cX9_move 43 = .ok (.if_icmp .eq 43, 3) := dk_159 0 43 (dk_at dksX9_move_1 20 rfl rfl)
theorem dX9_move_46 : decode cX9_move 46 = .ok (.aload_n 0, 1) := dk_42 (dk_at dksX9_move_1 23 rfl rfl)
theorem dX9_move_47 : decode cX9_move 47 = .ok (.iload_n 1, 1) := dk_27 (dk_at dksX9_move_2 0 rfl rfl)
theorem dX9_move_48 : decode cX9_move 48 = .ok (.iconst 1, 1) := dk_4 (dk_at dksX9_move_2 1 rfl rfl)
theorem dX9_move_49 : decode cX9_move 49 = .ok (.iconst 1, 1) := dk_4 (dk_at dksX9_move_2 2 rfl rfl)
theorem dX9_move_50 : decode cX9_move 50 = .ok (.aload_n 0, 1) := dk_42 (dk_at dksX9_move_2 3 rfl rfl)
theorem dX9_move_51 : decode cX9_move 51 = .ok (.iload_n 1, 1) := dk_27 (dk_at dksX9_move_2 4 rfl rfl)
theorem dX9_move_52 : decode cX9_move 52 = .ok (.iconst 1, 1) := dk_4 (dk_at dksX9_move_2 5 rfl rfl)
theorem dX9_move_53 : decode cX9_move 53 = .ok (.invokevirtual 106, 3) := dk_182 0 106 (dk_at dksX9_move_2 6 rfl rfl)
theorem dX9_move_56 : decode cX9_move 56 = .ok (.isub, 1) := dk_100 (dk_at dksX9_move_2 9 rfl rfl)
theorem dX9_move_57 : decode cX9_move 57 = .ok (.invokevirtual 98, 3) := dk_182 0 98 (dk_at dksX9_move_2 10 rfl rfl)
theorem dX9_move_60 : decode cX9_move 60 = .ok (.aload_n 0, 1) := dk_42 (dk_at dksX9_move_2 13 rfl rfl)
theorem dX9_move_61 : decode cX9_move 61 = .ok (.iload_n 1, 1) := dk_27 (dk_at dksX9_move_2 14 rfl rfl)
theorem dX9_move_62 : decode cX9_move 62 = .ok (.iconst 3, 1) := dk_6 (dk_at dksX9_move_2 15 rfl rfl)
theorem dX9_move_63 : decode cX9_move 63 = .ok (.aload_n 0, 1) := dk_42 (dk_at dksX9_move_2 16 rfl rfl)
theorem dX9_move_64 : decode cX9_move 64 = .ok (.getfield 9, 3) := dk_180 0 9 (dk_at dksX9_move_2 17 rfl rfl)
theorem dX9_move_67 : decode cX9_move 67 = .ok (.iconst 2, 1) := dk_5 (dk_at dksX9_move_2 20 rfl rfl)
theorem dX9_move_68 : decode cX9_move 68 = .ok (.iaload, 1) := dk_46 (dk_at dksX9_move_2 21 rfl rfl)
theorem dX9_move_69 : decode cX9_move 69 = .ok (.invokevirtual 98, 3) := dk_182 0 98 (dk_at dksX9_move_3 0 rfl rfl)
theorem dX9_move_72 : decode cX9_move 72 = .ok (.aload_n 0, 1) := dk_42 (dk_at dksX9_move_3 3 rfl rfl)
theorem dX9_move_73 : decode cX9_move 73 = .ok (.iload_n 1, 1) := dk_27 (dk_at dksX9_move_3 4 rfl rfl)
theorem dX9_move_74 : decode cX9_move 74 = .ok (.iconst 4, 1) := dk_7 (dk_at dksX9_move_3 5 rfl rfl)
theorem dX9_move_75 : decode cX9_move 75 = .ok (.aload_n 0, 1) := dk_42 (dk_at dksX9_move_3 6 rfl rfl)
theorem dX9_move_76 : decode cX9_move 76 = .ok (.iload_n 1, 1) := dk_27 (dk_at dksX9_move_3 7 rfl rfl)
theorem dX9_move_77 : decode cX9_move 77 = .ok (.iconst 4, 1) := dk_7 (dk_at dksX9_move_3 8 rfl rfl)
theorem dX9_move_78 : decode cX9_move 78 = .ok (.invokevirtual 106, 3) := dk_182 0 106 (dk_at dksX9_move_3 9 rfl rfl)
theorem dX9_move_81 : decode cX9_move 81 = .ok (.iconst 1, 1) := dk_4 (dk_at dksX9_move_3 12 rfl rfl)
theorem dX9_move_82 : decode cX9_move 82 = .ok (.iadd, 1) := dk_96 (dk_at dksX9_move_3 13 rfl rfl)
theorem dX9_move_83 : decode cX9_move 83 = .ok (.invokevirtual 98, 3) := dk_182 0 98 (dk_at dksX9_move_3 14 rfl rfl)
theorem dX9_move_86 : decode cX9_move 86 = .ok (.aload_n 0, 1) := dk_42 (dk_at dksX9_move_3 17 rfl rfl)
theorem dX9_move_87 : decode cX9_move 87 = .ok (.getfield 9, 3) := dk_180 0 9 (dk_at dksX9_move_3 18 rfl rfl)
theorem dX9_move_90 : decode cX9_move 90 = .ok (.iconst 4, 1) := dk_7 (dk_at dksX9_move_3 21 rfl rfl)
theorem dX9_move_91 : decode cX9_move 91 = .ok (.dup2, 1) := dk_92 (dk_at dksX9_move_3 22 rfl rfl)
theorem dX9_move_92 : decode cX9_move 92 = .ok (.iaload, 1) := dk_46 (dk_at dksX9_move_3 23 rfl rfl)
theorem dX9_move_93 : decode cX9_move 93 = .ok (.iconst 1, 1) := dk_4 (dk_at dksX9_move_4 0 rfl rfl)
theorem dX9_move_94 : decode cX9_move 94 = .ok (.iadd, 1) := dk_96 (dk_at dksX9_move_4 1 rfl rfl)
theorem dX9_move_95 : decode cX9_move 95 = .ok (.iastore, 1) := dk_79 (dk_at dksX9_move_4 2 rfl rfl)
theorem dX9_move_96 : decode cX9_move 96 = .ok (.aload_n 0, 1) := dk_42 (dk_at dksX9_move_4 3 rfl rfl)
theorem dX9_move_97 : decode cX9_move 97 = .ok (.getfield 9, 3) := dk_180 0 9 (dk_at dksX9_move_4 4 rfl rfl)
theorem dX9_move_100 : decode cX9_move 100 = .ok (.iconst 5, 1) := dk_8 (dk_at dksX9_move_4 7 rfl rfl)
theorem dX9_move_101 : decode cX9_move 101 = .ok (.iconst 3, 1) := dk_6 (dk_at dksX9_move_4 8 rfl rfl)
theorem dX9_move_102 : decode cX9_move 102 = .ok (.aload_n 0, 1) := dk_42 (dk_at dksX9_move_4 9 rfl rfl)
theorem dX9_move_103 : decode cX9_move 103 = .ok (.getfield 9, 3) := dk_180 0 9 (dk_at dksX9_move_4 10 rfl rfl)
theorem dX9_move_106 : decode cX9_move 106 = .ok (.iconst 5, 1) := dk_8 (dk_at dksX9_move_4 13 rfl rfl)
theorem dX9_move_107 : decode cX9_move 107 = .ok (.iaload, 1) := dk_46 (dk_at dksX9_move_4 14 rfl rfl)
theorem dX9_move_108 : decode cX9_move 108 = .ok (.isub, 1) := dk_100 (dk_at dksX9_move_4 15 rfl rfl)
theorem dX9_move_109 : decode cX9_move 109 = .ok (.iastore, 1) := dk_79 (dk_at dksX9_move_4 16 rfl rfl)
theorem dX9_move_110 : decode cX9_move 110 = .ok (.aload_n 0, 1) := dk_42 (dk_at dksX9_move_4 17 rfl rfl)
theorem dX9_move_111 : decode cX9_move 111 = .ok (.invokevirtual 79, 3) := dk_182 0 79 (dk_at dksX9_move_4 18 rfl rfl)
theorem dX9_move_114 : decode cX9_move 114 = .ok (.ireturn, 1) := dk_172 (dk_at dksX9_move_4 21 rfl rfl)
abbrev cX9_pass : ByteArray := prog_15_method_54_code
def yX9_pass : MethodName := ⟨RX9, "pass", "()I"⟩
def dkwX9_pass_1 : List UInt8 := [172, 42, 42, 180, 0, 9, 182, 0, 187, 42, 2, 182, 0, 212, 172]
abbrev dktX9_pass_1 : List UInt8 := dkwX9_pass_1 ++ []
def dkwX9_pass_0 : List UInt8 := [42, 3, 181, 0, 83, 42, 182, 0, 180, 153, 0, 6, 16, 250, 172, 42, 182, 0, 215, 153, 0, 6, 16, 246]
abbrev dktX9_pass_0 : List UInt8 := dkwX9_pass_0 ++ dktX9_pass_1
theorem dksX9_pass_0 : cX9_pass.data.toList.drop 0 = dktX9_pass_0 := by decide +kernel
theorem dksX9_pass_1 : cX9_pass.data.toList.drop 24 = dktX9_pass_1 := dk_seg dksX9_pass_0 24 rfl rfl
theorem dX9_pass_0 : decode cX9_pass 0 = .ok (.aload_n 0, 1) := dk_42 (dk_at dksX9_pass_0 0 rfl rfl)
theorem dX9_pass_1 : decode cX9_pass 1 = .ok (.iconst 0, 1) := dk_3 (dk_at dksX9_pass_0 1 rfl rfl)
theorem dX9_pass_2 : decode cX9_pass 2 = .ok (.putfield 83, 3) := dk_181 0 83 (dk_at dksX9_pass_0 2 rfl rfl)
theorem dX9_pass_5 : decode cX9_pass 5 = .ok (.aload_n 0, 1) := dk_42 (dk_at dksX9_pass_0 5 rfl rfl)
theorem dX9_pass_6 : decode cX9_pass 6 = .ok (.invokevirtual 180, 3) := dk_182 0 180 (dk_at dksX9_pass_0 6 rfl rfl)
theorem dX9_pass_9 : decode cX9_pass 9 = .ok (.ifCond .eq 6, 3) := dk_153 0 6 (dk_at dksX9_pass_0 9 rfl rfl)
theorem dX9_pass_12 : decode cX9_pass 12 = .ok (.bipush (-6), 2) := dk_16 250 (dk_at dksX9_pass_0 12 rfl rfl)
theorem dX9_pass_14 : decode cX9_pass 14 = .ok (.ireturn, 1) := dk_172 (dk_at dksX9_pass_0 14 rfl rfl)
theorem dX9_pass_15 : decode cX9_pass 15 = .ok (.aload_n 0, 1) := dk_42 (dk_at dksX9_pass_0 15 rfl rfl)
theorem dX9_pass_16 : decode cX9_pass 16 = .ok (.invokevirtual 215, 3) := dk_182 0 215 (dk_at dksX9_pass_0 16 rfl rfl)
theorem dX9_pass_19 : decode cX9_pass 19 = .ok (.ifCond .eq 6, 3) := dk_153 0 6 (dk_at dksX9_pass_0 19 rfl rfl)
theorem dX9_pass_22 : decode cX9_pass 22 = .ok (.bipush (-10), 2) := dk_16 246 (dk_at dksX9_pass_0 22 rfl rfl)
theorem dX9_pass_24 : decode cX9_pass 24 = .ok (.ireturn, 1) := dk_172 (dk_at dksX9_pass_1 0 rfl rfl)
theorem dX9_pass_25 : decode cX9_pass 25 = .ok (.aload_n 0, 1) := dk_42 (dk_at dksX9_pass_1 1 rfl rfl)
theorem dX9_pass_26 : decode cX9_pass 26 = .ok (.aload_n 0, 1) := dk_42 (dk_at dksX9_pass_1 2 rfl rfl)
theorem dX9_pass_27 : decode cX9_pass 27 = .ok (.getfield 9, 3) := dk_180 0 9 (dk_at dksX9_pass_1 3 rfl rfl)
theorem dX9_pass_30 : decode cX9_pass 30 = .ok (.invokevirtual 187, 3) := dk_182 0 187 (dk_at dksX9_pass_1 6 rfl rfl)
theorem dX9_pass_33 : decode cX9_pass 33 = .ok (.aload_n 0, 1) := dk_42 (dk_at dksX9_pass_1 9 rfl rfl)
theorem dX9_pass_34 : decode cX9_pass 34 = .ok (.iconst (-1), 1) := dk_2 (dk_at dksX9_pass_1 10 rfl rfl)
theorem dX9_pass_35 : decode cX9_pass 35 = .ok (.invokevirtual 212, 3) := dk_182 0 212 (dk_at dksX9_pass_1 11 rfl rfl)
theorem dX9_pass_38 : decode cX9_pass 38 = .ok (.ireturn, 1) := dk_172 (dk_at dksX9_pass_1 14 rfl rfl)
abbrev cX9_canTurn : ByteArray := prog_15_method_38_code
def yX9_canTurn : MethodName := ⟨RX9, "canTurn", "()Z"⟩
def dkwX9_canTurn_1 : List UInt8 := [4, 172, 132, 1, 1, 167, 255, 229, 3, 172]
abbrev dktX9_canTurn_1 : List UInt8 := dkwX9_canTurn_1 ++ []
def dkwX9_canTurn_0 : List UInt8 := [3, 60, 27, 16, 100, 162, 0, 27, 42, 27, 182, 0, 113, 153, 0, 13, 42, 27, 182, 0, 184, 154, 0, 5]
abbrev dktX9_canTurn_0 : List UInt8 := dkwX9_canTurn_0 ++ dktX9_canTurn_1
theorem dksX9_canTurn_0 : cX9_canTurn.data.toList.drop 0 = dktX9_canTurn_0 := by decide +kernel
theorem dksX9_canTurn_1 : cX9_canTurn.data.toList.drop 24 = dktX9_canTurn_1 := dk_seg dksX9_canTurn_0 24 rfl rfl
theorem dX9_canTurn_0 : decode cX9_canTurn 0 = .ok (.iconst 0, 1) := dk_3 (dk_at dksX9_canTurn_0 0 rfl rfl)
theorem dX9_canTurn_1 : decode cX9_canTurn 1 = .ok (.istore_n 1, 1) := dk_60 (dk_at dksX9_canTurn_0 1 rfl rfl)
theorem dX9_canTurn_2 : decode cX9_canTurn 2 = .ok (.iload_n 1, 1) := dk_27 (dk_at dksX9_canTurn_0 2 rfl rfl)
theorem dX9_canTurn_3 : decode cX9_canTurn 3 = .ok (.bipush 100, 2) := dk_16 100 (dk_at dksX9_canTurn_0 3 rfl rfl)
theorem dX9_canTurn_5 : decode cX9_canTurn 5 = .ok (.if_icmp .ge 27, 3) := dk_162 0 27 (dk_at dksX9_canTurn_0 5 rfl rfl)
theorem dX9_canTurn_8 : decode cX9_canTurn 8 = .ok (.aload_n 0, 1) := dk_42 (dk_at dksX9_canTurn_0 8 rfl rfl)
theorem dX9_canTurn_9 : decode cX9_canTurn 9 = .ok (.iload_n 1, 1) := dk_27 (dk_at dksX9_canTurn_0 9 rfl rfl)
theorem dX9_canTurn_10 : decode cX9_canTurn 10 = .ok (.invokevirtual 113, 3) := dk_182 0 113 (dk_at dksX9_canTurn_0 10 rfl rfl)
theorem dX9_canTurn_13 : decode cX9_canTurn 13 = .ok (.ifCond .eq 13, 3) := dk_153 0 13 (dk_at dksX9_canTurn_0 13 rfl rfl)
theorem dX9_canTurn_16 : decode cX9_canTurn 16 = .ok (.aload_n 0, 1) := dk_42 (dk_at dksX9_canTurn_0 16 rfl rfl)
theorem dX9_canTurn_17 : decode cX9_canTurn 17 = .ok (.iload_n 1, 1) := dk_27 (dk_at dksX9_canTurn_0 17 rfl rfl)
theorem dX9_canTurn_18 : decode cX9_canTurn 18 = .ok (.invokevirtual 184, 3) := dk_182 0 184 (dk_at dksX9_canTurn_0 18 rfl rfl)
theorem dX9_canTurn_21 : decode cX9_canTurn 21 = .ok (.ifCond .ne 5, 3) := dk_154 0 5 (dk_at dksX9_canTurn_0 21 rfl rfl)
theorem dX9_canTurn_24 : decode cX9_canTurn 24 = .ok (.iconst 1, 1) := dk_4 (dk_at dksX9_canTurn_1 0 rfl rfl)
theorem dX9_canTurn_25 : decode cX9_canTurn 25 = .ok (.ireturn, 1) := dk_172 (dk_at dksX9_canTurn_1 1 rfl rfl)
theorem dX9_canTurn_26 : decode cX9_canTurn 26 = .ok (.iinc 1 1, 3) := dk_132 1 1 (dk_at dksX9_canTurn_1 2 rfl rfl)
theorem dX9_canTurn_29 : decode cX9_canTurn 29 = .ok (.goto (-27), 3) := dk_167 255 229 (dk_at dksX9_canTurn_1 5 rfl rfl)
theorem dX9_canTurn_32 : decode cX9_canTurn 32 = .ok (.iconst 0, 1) := dk_3 (dk_at dksX9_canTurn_1 8 rfl rfl)
theorem dX9_canTurn_33 : decode cX9_canTurn 33 = .ok (.ireturn, 1) := dk_172 (dk_at dksX9_canTurn_1 9 rfl rfl)
abbrev cX9_undo : ByteArray := prog_15_method_55_code
def yX9_undo : MethodName := ⟨RX9, "undo", "()I"⟩
def dkwX9_undo_1 : List UInt8 := [42, 180, 0, 15, 42, 180, 0, 91, 50, 42, 180, 0, 9, 184, 0, 94, 42, 180, 0, 91, 172]
abbrev dktX9_undo_1 : List UInt8 := dkwX9_undo_1 ++ []
def dkwX9_undo_0 : List UInt8 := [42, 3, 181, 0, 83, 42, 180, 0, 91, 154, 0, 5, 2, 172, 42, 89, 180, 0, 91, 4, 100, 181, 0, 91]
abbrev dktX9_undo_0 : List UInt8 := dkwX9_undo_0 ++ dktX9_undo_1
theorem dksX9_undo_0 : cX9_undo.data.toList.drop 0 = dktX9_undo_0 := by decide +kernel
theorem dksX9_undo_1 : cX9_undo.data.toList.drop 24 = dktX9_undo_1 := dk_seg dksX9_undo_0 24 rfl rfl
theorem dX9_undo_0 : decode cX9_undo 0 = .ok (.aload_n 0, 1) := dk_42 (dk_at dksX9_undo_0 0 rfl rfl)
theorem dX9_undo_1 : decode cX9_undo 1 = .ok (.iconst 0, 1) := dk_3 (dk_at dksX9_undo_0 1 rfl rfl)
theorem dX9_undo_2 : decode cX9_undo 2 = .ok (.putfield 83, 3) := dk_181 0 83 (dk_at dksX9_undo_0 2 rfl rfl)
theorem dX9_undo_5 : decode cX9_undo 5 = .ok (.aload_n 0, 1) := dk_42 (dk_at dksX9_undo_0 5 rfl rfl)
theorem dX9_undo_6 : decode cX9_undo 6 = .ok (.getfield 91, 3) := dk_180 0 91 (dk_at dksX9_undo_0 6 rfl rfl)
theorem dX9_undo_9 : decode cX9_undo 9 = .ok (.ifCond .ne 5, 3) := dk_154 0 5 (dk_at dksX9_undo_0 9 rfl rfl)
theorem dX9_undo_12 : decode cX9_undo 12 = .ok (.iconst (-1), 1) := dk_2 (dk_at dksX9_undo_0 12 rfl rfl)
theorem dX9_undo_13 : decode cX9_undo 13 = .ok (.ireturn, 1) := dk_172 (dk_at dksX9_undo_0 13 rfl rfl)
theorem dX9_undo_14 : decode cX9_undo 14 = .ok (.aload_n 0, 1) := dk_42 (dk_at dksX9_undo_0 14 rfl rfl)
theorem dX9_undo_15 : decode cX9_undo 15 = .ok (.dup, 1) := dk_89 (dk_at dksX9_undo_0 15 rfl rfl)
theorem dX9_undo_16 : decode cX9_undo 16 = .ok (.getfield 91, 3) := dk_180 0 91 (dk_at dksX9_undo_0 16 rfl rfl)
theorem dX9_undo_19 : decode cX9_undo 19 = .ok (.iconst 1, 1) := dk_4 (dk_at dksX9_undo_0 19 rfl rfl)
theorem dX9_undo_20 : decode cX9_undo 20 = .ok (.isub, 1) := dk_100 (dk_at dksX9_undo_0 20 rfl rfl)
theorem dX9_undo_21 : decode cX9_undo 21 = .ok (.putfield 91, 3) := dk_181 0 91 (dk_at dksX9_undo_0 21 rfl rfl)
theorem dX9_undo_24 : decode cX9_undo 24 = .ok (.aload_n 0, 1) := dk_42 (dk_at dksX9_undo_1 0 rfl rfl)
theorem dX9_undo_25 : decode cX9_undo 25 = .ok (.getfield 15, 3) := dk_180 0 15 (dk_at dksX9_undo_1 1 rfl rfl)
theorem dX9_undo_28 : decode cX9_undo 28 = .ok (.aload_n 0, 1) := dk_42 (dk_at dksX9_undo_1 4 rfl rfl)
theorem dX9_undo_29 : decode cX9_undo 29 = .ok (.getfield 91, 3) := dk_180 0 91 (dk_at dksX9_undo_1 5 rfl rfl)
theorem dX9_undo_32 : decode cX9_undo 32 = .ok (.aaload, 1) := dk_50 (dk_at dksX9_undo_1 8 rfl rfl)
theorem dX9_undo_33 : decode cX9_undo 33 = .ok (.aload_n 0, 1) := dk_42 (dk_at dksX9_undo_1 9 rfl rfl)
theorem dX9_undo_34 : decode cX9_undo 34 = .ok (.getfield 9, 3) := dk_180 0 9 (dk_at dksX9_undo_1 10 rfl rfl)
theorem dX9_undo_37 : decode cX9_undo 37 = .ok (.invokestatic 94, 3) := dk_184 0 94 (dk_at dksX9_undo_1 13 rfl rfl)
theorem dX9_undo_40 : decode cX9_undo 40 = .ok (.aload_n 0, 1) := dk_42 (dk_at dksX9_undo_1 16 rfl rfl)
theorem dX9_undo_41 : decode cX9_undo 41 = .ok (.getfield 91, 3) := dk_180 0 91 (dk_at dksX9_undo_1 17 rfl rfl)
theorem dX9_undo_44 : decode cX9_undo 44 = .ok (.ireturn, 1) := dk_172 (dk_at dksX9_undo_1 20 rfl rfl)
abbrev cX9_keep : ByteArray := prog_15_method_56_code
def yX9_keep : MethodName := ⟨RX9, "keep", "(I)I"⟩
def dkwX9_keep_1 : List UInt8 := [180, 0, 18, 27, 50, 184, 0, 94, 42, 180, 0, 21, 27, 4, 84, 42, 180, 0, 9, 7, 46, 172]
abbrev dktX9_keep_1 : List UInt8 := dkwX9_keep_1 ++ []
def dkwX9_keep_0 : List UInt8 := [42, 3, 181, 0, 83, 42, 27, 3, 4, 4, 182, 0, 201, 153, 0, 5, 3, 172, 42, 180, 0, 9, 42]
abbrev dktX9_keep_0 : List UInt8 := dkwX9_keep_0 ++ dktX9_keep_1
theorem dksX9_keep_0 : cX9_keep.data.toList.drop 0 = dktX9_keep_0 := by decide +kernel
theorem dksX9_keep_1 : cX9_keep.data.toList.drop 23 = dktX9_keep_1 := dk_seg dksX9_keep_0 23 rfl rfl
theorem dX9_keep_0 : decode cX9_keep 0 = .ok (.aload_n 0, 1) := dk_42 (dk_at dksX9_keep_0 0 rfl rfl)
theorem dX9_keep_1 : decode cX9_keep 1 = .ok (.iconst 0, 1) := dk_3 (dk_at dksX9_keep_0 1 rfl rfl)
theorem dX9_keep_2 : decode cX9_keep 2 = .ok (.putfield 83, 3) := dk_181 0 83 (dk_at dksX9_keep_0 2 rfl rfl)
theorem dX9_keep_5 : decode cX9_keep 5 = .ok (.aload_n 0, 1) := dk_42 (dk_at dksX9_keep_0 5 rfl rfl)
theorem dX9_keep_6 : decode cX9_keep 6 = .ok (.iload_n 1, 1) := dk_27 (dk_at dksX9_keep_0 6 rfl rfl)
theorem dX9_keep_7 : decode cX9_keep 7 = .ok (.iconst 0, 1) := dk_3 (dk_at dksX9_keep_0 7 rfl rfl)
theorem dX9_keep_8 : decode cX9_keep 8 = .ok (.iconst 1, 1) := dk_4 (dk_at dksX9_keep_0 8 rfl rfl)
theorem dX9_keep_9 : decode cX9_keep 9 = .ok (.iconst 1, 1) := dk_4 (dk_at dksX9_keep_0 9 rfl rfl)
theorem dX9_keep_10 : decode cX9_keep 10 = .ok (.invokevirtual 201, 3) := dk_182 0 201 (dk_at dksX9_keep_0 10 rfl rfl)
theorem dX9_keep_13 : decode cX9_keep 13 = .ok (.ifCond .eq 5, 3) := dk_153 0 5 (dk_at dksX9_keep_0 13 rfl rfl)
theorem dX9_keep_16 : decode cX9_keep 16 = .ok (.iconst 0, 1) := dk_3 (dk_at dksX9_keep_0 16 rfl rfl)
theorem dX9_keep_17 : decode cX9_keep 17 = .ok (.ireturn, 1) := dk_172 (dk_at dksX9_keep_0 17 rfl rfl)
theorem dX9_keep_18 : decode cX9_keep 18 = .ok (.aload_n 0, 1) := dk_42 (dk_at dksX9_keep_0 18 rfl rfl)
theorem dX9_keep_19 : decode cX9_keep 19 = .ok (.getfield 9, 3) := dk_180 0 9 (dk_at dksX9_keep_0 19 rfl rfl)
theorem dX9_keep_22 : decode cX9_keep 22 = .ok (.aload_n 0, 1) := dk_42 (dk_at dksX9_keep_0 22 rfl rfl)
theorem dX9_keep_23 : decode cX9_keep 23 = .ok (.getfield 18, 3) := dk_180 0 18 (dk_at dksX9_keep_1 0 rfl rfl)
theorem dX9_keep_26 : decode cX9_keep 26 = .ok (.iload_n 1, 1) := dk_27 (dk_at dksX9_keep_1 3 rfl rfl)
theorem dX9_keep_27 : decode cX9_keep 27 = .ok (.aaload, 1) := dk_50 (dk_at dksX9_keep_1 4 rfl rfl)
theorem dX9_keep_28 : decode cX9_keep 28 = .ok (.invokestatic 94, 3) := dk_184 0 94 (dk_at dksX9_keep_1 5 rfl rfl)
theorem dX9_keep_31 : decode cX9_keep 31 = .ok (.aload_n 0, 1) := dk_42 (dk_at dksX9_keep_1 8 rfl rfl)
theorem dX9_keep_32 : decode cX9_keep 32 = .ok (.getfield 21, 3) := dk_180 0 21 (dk_at dksX9_keep_1 9 rfl rfl)
theorem dX9_keep_35 : decode cX9_keep 35 = .ok (.iload_n 1, 1) := dk_27 (dk_at dksX9_keep_1 12 rfl rfl)
theorem dX9_keep_36 : decode cX9_keep 36 = .ok (.iconst 1, 1) := dk_4 (dk_at dksX9_keep_1 13 rfl rfl)
theorem dX9_keep_37 : decode cX9_keep 37 = .ok (.bastore, 1) := dk_84 (dk_at dksX9_keep_1 14 rfl rfl)
theorem dX9_keep_38 : decode cX9_keep 38 = .ok (.aload_n 0, 1) := dk_42 (dk_at dksX9_keep_1 15 rfl rfl)
theorem dX9_keep_39 : decode cX9_keep 39 = .ok (.getfield 9, 3) := dk_180 0 9 (dk_at dksX9_keep_1 16 rfl rfl)
theorem dX9_keep_42 : decode cX9_keep 42 = .ok (.iconst 4, 1) := dk_7 (dk_at dksX9_keep_1 19 rfl rfl)
theorem dX9_keep_43 : decode cX9_keep 43 = .ok (.iaload, 1) := dk_46 (dk_at dksX9_keep_1 20 rfl rfl)
theorem dX9_keep_44 : decode cX9_keep 44 = .ok (.ireturn, 1) := dk_172 (dk_at dksX9_keep_1 21 rfl rfl)
abbrev cX9_restore : ByteArray := prog_15_method_57_code
def yX9_restore : MethodName := ⟨RX9, "restore", "(I)I"⟩
def dkwX9_restore_2 : List UInt8 := [180, 0, 9, 7, 46, 172]
abbrev dktX9_restore_2 : List UInt8 := dkwX9_restore_2 ++ []
def dkwX9_restore_1 : List UInt8 := [154, 0, 5, 2, 172, 42, 180, 0, 18, 27, 50, 42, 180, 0, 9, 184, 0, 94, 42, 3, 181, 0, 91, 42]
abbrev dktX9_restore_1 : List UInt8 := dkwX9_restore_1 ++ dktX9_restore_2
def dkwX9_restore_0 : List UInt8 := [42, 3, 181, 0, 83, 42, 27, 3, 4, 4, 182, 0, 201, 153, 0, 5, 3, 172, 42, 180, 0, 21, 27, 51]
abbrev dktX9_restore_0 : List UInt8 := dkwX9_restore_0 ++ dktX9_restore_1
theorem dksX9_restore_0 : cX9_restore.data.toList.drop 0 = dktX9_restore_0 := by decide +kernel
theorem dksX9_restore_1 : cX9_restore.data.toList.drop 24 = dktX9_restore_1 := dk_seg dksX9_restore_0 24 rfl rfl
theorem dksX9_restore_2 : cX9_restore.data.toList.drop 48 = dktX9_restore_2 := dk_seg dksX9_restore_1 24 rfl rfl
theorem dX9_restore_0 : decode cX9_restore 0 = .ok (.aload_n 0, 1) := dk_42 (dk_at dksX9_restore_0 0 rfl rfl)
theorem dX9_restore_1 : decode cX9_restore 1 = .ok (.iconst 0, 1) := dk_3 (dk_at dksX9_restore_0 1 rfl rfl)
theorem dX9_restore_2 : decode cX9_restore 2 = .ok (.putfield 83, 3) := dk_181 0 83 (dk_at dksX9_restore_0 2 rfl rfl)
theorem dX9_restore_5 : decode cX9_restore 5 = .ok (.aload_n 0, 1) := dk_42 (dk_at dksX9_restore_0 5 rfl rfl)
theorem dX9_restore_6 : decode cX9_restore 6 = .ok (.iload_n 1, 1) := dk_27 (dk_at dksX9_restore_0 6 rfl rfl)
theorem dX9_restore_7 : decode cX9_restore 7 = .ok (.iconst 0, 1) := dk_3 (dk_at dksX9_restore_0 7 rfl rfl)
theorem dX9_restore_8 : decode cX9_restore 8 = .ok (.iconst 1, 1) := dk_4 (dk_at dksX9_restore_0 8 rfl rfl)
theorem dX9_restore_9 : decode cX9_restore 9 = .ok (.iconst 1, 1) := dk_4 (dk_at dksX9_restore_0 9 rfl rfl)
theorem dX9_restore_10 : decode cX9_restore 10 = .ok (.invokevirtual 201, 3) := dk_182 0 201 (dk_at dksX9_restore_0 10 rfl rfl)
theorem dX9_restore_13 : decode cX9_restore 13 = .ok (.ifCond .eq 5, 3) := dk_153 0 5 (dk_at dksX9_restore_0 13 rfl rfl)
theorem dX9_restore_16 : decode cX9_restore 16 = .ok (.iconst 0, 1) := dk_3 (dk_at dksX9_restore_0 16 rfl rfl)
theorem dX9_restore_17 : decode cX9_restore 17 = .ok (.ireturn, 1) := dk_172 (dk_at dksX9_restore_0 17 rfl rfl)
theorem dX9_restore_18 : decode cX9_restore 18 = .ok (.aload_n 0, 1) := dk_42 (dk_at dksX9_restore_0 18 rfl rfl)
theorem dX9_restore_19 : decode cX9_restore 19 = .ok (.getfield 21, 3) := dk_180 0 21 (dk_at dksX9_restore_0 19 rfl rfl)
theorem dX9_restore_22 : decode cX9_restore 22 = .ok (.iload_n 1, 1) := dk_27 (dk_at dksX9_restore_0 22 rfl rfl)
theorem dX9_restore_23 : decode cX9_restore 23 = .ok (.baload, 1) := dk_51 (dk_at dksX9_restore_0 23 rfl rfl)
theorem dX9_restore_24 : decode cX9_restore 24 = .ok (.ifCond .ne 5, 3) := dk_154 0 5 (dk_at dksX9_restore_1 0 rfl rfl)
theorem dX9_restore_27 : decode cX9_restore 27 = .ok (.iconst (-1), 1) := dk_2 (dk_at dksX9_restore_1 3 rfl rfl)
theorem dX9_restore_28 : decode cX9_restore 28 = .ok (.ireturn, 1) := dk_172 (dk_at dksX9_restore_1 4 rfl rfl)
theorem dX9_restore_29 : decode cX9_restore 29 = .ok (.aload_n 0, 1) := dk_42 (dk_at dksX9_restore_1 5 rfl rfl)
theorem dX9_restore_30 : decode cX9_restore 30 = .ok (.getfield 18, 3) := dk_180 0 18 (dk_at dksX9_restore_1 6 rfl rfl)
theorem dX9_restore_33 : decode cX9_restore 33 = .ok (.iload_n 1, 1) := dk_27 (dk_at dksX9_restore_1 9 rfl rfl)
theorem dX9_restore_34 : decode cX9_restore 34 = .ok (.aaload, 1) := dk_50 (dk_at dksX9_restore_1 10 rfl rfl)
theorem dX9_restore_35 : decode cX9_restore 35 = .ok (.aload_n 0, 1) := dk_42 (dk_at dksX9_restore_1 11 rfl rfl)
theorem dX9_restore_36 : decode cX9_restore 36 = .ok (.getfield 9, 3) := dk_180 0 9 (dk_at dksX9_restore_1 12 rfl rfl)
theorem dX9_restore_39 : decode cX9_restore 39 = .ok (.invokestatic 94, 3) := dk_184 0 94 (dk_at dksX9_restore_1 15 rfl rfl)
theorem dX9_restore_42 : decode cX9_restore 42 = .ok (.aload_n 0, 1) := dk_42 (dk_at dksX9_restore_1 18 rfl rfl)
theorem dX9_restore_43 : decode cX9_restore 43 = .ok (.iconst 0, 1) := dk_3 (dk_at dksX9_restore_1 19 rfl rfl)
theorem dX9_restore_44 : decode cX9_restore 44 = .ok (.putfield 91, 3) := dk_181 0 91 (dk_at dksX9_restore_1 20 rfl rfl)
theorem dX9_restore_47 : decode cX9_restore 47 = .ok (.aload_n 0, 1) := dk_42 (dk_at dksX9_restore_1 23 rfl rfl)
theorem dX9_restore_48 : decode cX9_restore 48 = .ok (.getfield 9, 3) := dk_180 0 9 (dk_at dksX9_restore_2 0 rfl rfl)
theorem dX9_restore_51 : decode cX9_restore 51 = .ok (.iconst 4, 1) := dk_7 (dk_at dksX9_restore_2 3 rfl rfl)
theorem dX9_restore_52 : decode cX9_restore 52 = .ok (.iaload, 1) := dk_46 (dk_at dksX9_restore_2 4 rfl rfl)
theorem dX9_restore_53 : decode cX9_restore 53 = .ok (.ireturn, 1) := dk_172 (dk_at dksX9_restore_2 5 rfl rfl)
abbrev cX9_load : ByteArray := prog_15_method_67_code
def yX9_load : MethodName := ⟨RX9, "load", "()I"⟩
def dkwX9_load_9 : List UInt8 := [182, 0, 187, 42, 5, 182, 0, 161, 172]
abbrev dktX9_load_9 : List UInt8 := dkwX9_load_9 ++ []
def dkwX9_load_8 : List UInt8 := [180, 0, 25, 42, 180, 0, 9, 184, 0, 94, 16, 226, 42, 180, 0, 248, 100, 172, 42, 42, 180, 0, 25]
abbrev dktX9_load_8 : List UInt8 := dkwX9_load_8 ++ dktX9_load_9
def dkwX9_load_7 : List UInt8 := [154, 255, 234, 42, 182, 0, 254, 167, 255, 227, 42, 3, 181, 0, 218, 42, 180, 0, 248, 153, 0, 22, 42]
abbrev dktX9_load_7 : List UInt8 := dkwX9_load_7 ++ dktX9_load_8
def dkwX9_load_6 : List UInt8 := [42, 180, 0, 248, 154, 0, 28, 42, 180, 0, 227, 153, 0, 21, 42, 182, 1, 21, 42, 180, 0, 248]
abbrev dktX9_load_6 : List UInt8 := dkwX9_load_6 ++ dktX9_load_7
def dkwX9_load_5 : List UInt8 := [182, 0, 71, 42, 29, 21, 4, 16, 7, 21, 5, 3, 182, 0, 75, 42, 182, 0, 79, 87, 42, 182, 0, 254]
abbrev dktX9_load_5 : List UInt8 := dkwX9_load_5 ++ dktX9_load_6
def dkwX9_load_4 : List UInt8 := [54, 4, 42, 3, 6, 182, 1, 14, 54, 5, 42, 182, 1, 18, 42, 180, 0, 248, 154, 0, 30, 42, 27, 28]
abbrev dktX9_load_4 : List UInt8 := dkwX9_load_4 ++ dktX9_load_5
def dkwX9_load_3 : List UInt8 := [182, 1, 6, 182, 1, 10, 42, 3, 27, 4, 100, 182, 1, 14, 62, 42, 3, 28, 4, 100, 182, 1, 14]
abbrev dktX9_load_3 : List UInt8 := dkwX9_load_3 ++ dktX9_load_4
def dkwX9_load_2 : List UInt8 := [182, 1, 14, 60, 42, 5, 16, 10, 182, 1, 14, 61, 42, 180, 0, 248, 154, 0, 14, 42, 42, 19, 1, 17]
abbrev dktX9_load_2 : List UInt8 := dkwX9_load_2 ++ dktX9_load_3
def dkwX9_load_1 : List UInt8 := [181, 0, 248, 42, 182, 0, 254, 42, 42, 19, 1, 4, 182, 1, 6, 182, 1, 10, 42, 5, 16, 10]
abbrev dktX9_load_1 : List UInt8 := dkwX9_load_1 ++ dktX9_load_2
def dkwX9_load_0 : List UInt8 := [42, 3, 181, 0, 83, 42, 180, 0, 9, 42, 180, 0, 25, 184, 0, 94, 42, 3, 181, 0, 221, 42, 3]
abbrev dktX9_load_0 : List UInt8 := dkwX9_load_0 ++ dktX9_load_1
theorem dksX9_load_0 : cX9_load.data.toList.drop 0 = dktX9_load_0 := by decide +kernel
theorem dksX9_load_1 : cX9_load.data.toList.drop 23 = dktX9_load_1 := dk_seg dksX9_load_0 23 rfl rfl
theorem dksX9_load_2 : cX9_load.data.toList.drop 45 = dktX9_load_2 := dk_seg dksX9_load_1 22 rfl rfl
theorem dksX9_load_3 : cX9_load.data.toList.drop 69 = dktX9_load_3 := dk_seg dksX9_load_2 24 rfl rfl
theorem dksX9_load_4 : cX9_load.data.toList.drop 92 = dktX9_load_4 := dk_seg dksX9_load_3 23 rfl rfl
theorem dksX9_load_5 : cX9_load.data.toList.drop 116 = dktX9_load_5 := dk_seg dksX9_load_4 24 rfl rfl
theorem dksX9_load_6 : cX9_load.data.toList.drop 140 = dktX9_load_6 := dk_seg dksX9_load_5 24 rfl rfl
theorem dksX9_load_7 : cX9_load.data.toList.drop 162 = dktX9_load_7 := dk_seg dksX9_load_6 22 rfl rfl
theorem dksX9_load_8 : cX9_load.data.toList.drop 185 = dktX9_load_8 := dk_seg dksX9_load_7 23 rfl rfl
theorem dksX9_load_9 : cX9_load.data.toList.drop 208 = dktX9_load_9 := dk_seg dksX9_load_8 23 rfl rfl
theorem dX9_load_0 : decode cX9_load 0 = .ok (.aload_n 0, 1) := dk_42 (dk_at dksX9_load_0 0 rfl rfl)
theorem dX9_load_1 : decode cX9_load 1 = .ok (.iconst 0, 1) := dk_3 (dk_at dksX9_load_0 1 rfl rfl)
theorem dX9_load_2 : decode cX9_load 2 = .ok (.putfield 83, 3) := dk_181 0 83 (dk_at dksX9_load_0 2 rfl rfl)
theorem dX9_load_5 : decode cX9_load 5 = .ok (.aload_n 0, 1) := dk_42 (dk_at dksX9_load_0 5 rfl rfl)
theorem dX9_load_6 : decode cX9_load 6 = .ok (.getfield 9, 3) := dk_180 0 9 (dk_at dksX9_load_0 6 rfl rfl)
theorem dX9_load_9 : decode cX9_load 9 = .ok (.aload_n 0, 1) := dk_42 (dk_at dksX9_load_0 9 rfl rfl)
theorem dX9_load_10 : decode cX9_load 10 = .ok (.getfield 25, 3) := dk_180 0 25 (dk_at dksX9_load_0 10 rfl rfl)
theorem dX9_load_13 : decode cX9_load 13 = .ok (.invokestatic 94, 3) := dk_184 0 94 (dk_at dksX9_load_0 13 rfl rfl)
theorem dX9_load_16 : decode cX9_load 16 = .ok (.aload_n 0, 1) := dk_42 (dk_at dksX9_load_0 16 rfl rfl)
theorem dX9_load_17 : decode cX9_load 17 = .ok (.iconst 0, 1) := dk_3 (dk_at dksX9_load_0 17 rfl rfl)
theorem dX9_load_18 : decode cX9_load 18 = .ok (.putfield 221, 3) := dk_181 0 221 (dk_at dksX9_load_0 18 rfl rfl)
theorem dX9_load_21 : decode cX9_load 21 = .ok (.aload_n 0, 1) := dk_42 (dk_at dksX9_load_0 21 rfl rfl)
theorem dX9_load_22 : decode cX9_load 22 = .ok (.iconst 0, 1) := dk_3 (dk_at dksX9_load_0 22 rfl rfl)
theorem dX9_load_23 : decode cX9_load 23 = .ok (.putfield 248, 3) := dk_181 0 248 (dk_at dksX9_load_1 0 rfl rfl)
theorem dX9_load_26 : decode cX9_load 26 = .ok (.aload_n 0, 1) := dk_42 (dk_at dksX9_load_1 3 rfl rfl)
theorem dX9_load_27 : decode cX9_load 27 = .ok (.invokevirtual 254, 3) := dk_182 0 254 (dk_at dksX9_load_1 4 rfl rfl)
theorem dX9_load_30 : decode cX9_load 30 = .ok (.aload_n 0, 1) := dk_42 (dk_at dksX9_load_1 7 rfl rfl)
theorem dX9_load_31 : decode cX9_load 31 = .ok (.aload_n 0, 1) := dk_42 (dk_at dksX9_load_1 8 rfl rfl)
theorem dX9_load_32 : decode cX9_load 32 = .ok (.ldc_w 260, 3) := dk_19 1 4 (dk_at dksX9_load_1 9 rfl rfl)
theorem dX9_load_35 : decode cX9_load 35 = .ok (.invokevirtual 262, 3) := dk_182 1 6 (dk_at dksX9_load_1 12 rfl rfl)
theorem dX9_load_38 : decode cX9_load 38 = .ok (.invokevirtual 266, 3) := dk_182 1 10 (dk_at dksX9_load_1 15 rfl rfl)
theorem dX9_load_41 : decode cX9_load 41 = .ok (.aload_n 0, 1) := dk_42 (dk_at dksX9_load_1 18 rfl rfl)
theorem dX9_load_42 : decode cX9_load 42 = .ok (.iconst 2, 1) := dk_5 (dk_at dksX9_load_1 19 rfl rfl)
theorem dX9_load_43 : decode cX9_load 43 = .ok (.bipush 10, 2) := dk_16 10 (dk_at dksX9_load_1 20 rfl rfl)
theorem dX9_load_45 : decode cX9_load 45 = .ok (.invokevirtual 270, 3) := dk_182 1 14 (dk_at dksX9_load_2 0 rfl rfl)
theorem dX9_load_48 : decode cX9_load 48 = .ok (.istore_n 1, 1) := dk_60 (dk_at dksX9_load_2 3 rfl rfl)
theorem dX9_load_49 : decode cX9_load 49 = .ok (.aload_n 0, 1) := dk_42 (dk_at dksX9_load_2 4 rfl rfl)
theorem dX9_load_50 : decode cX9_load 50 = .ok (.iconst 2, 1) := dk_5 (dk_at dksX9_load_2 5 rfl rfl)
theorem dX9_load_51 : decode cX9_load 51 = .ok (.bipush 10, 2) := dk_16 10 (dk_at dksX9_load_2 6 rfl rfl)
theorem dX9_load_53 : decode cX9_load 53 = .ok (.invokevirtual 270, 3) := dk_182 1 14 (dk_at dksX9_load_2 8 rfl rfl)
theorem dX9_load_56 : decode cX9_load 56 = .ok (.istore_n 2, 1) := dk_61 (dk_at dksX9_load_2 11 rfl rfl)
theorem dX9_load_57 : decode cX9_load 57 = .ok (.aload_n 0, 1) := dk_42 (dk_at dksX9_load_2 12 rfl rfl)
theorem dX9_load_58 : decode cX9_load 58 = .ok (.getfield 248, 3) := dk_180 0 248 (dk_at dksX9_load_2 13 rfl rfl)
theorem dX9_load_61 : decode cX9_load 61 = .ok (.ifCond .ne 14, 3) := dk_154 0 14 (dk_at dksX9_load_2 16 rfl rfl)
theorem dX9_load_64 : decode cX9_load 64 = .ok (.aload_n 0, 1) := dk_42 (dk_at dksX9_load_2 19 rfl rfl)
theorem dX9_load_65 : decode cX9_load 65 = .ok (.aload_n 0, 1) := dk_42 (dk_at dksX9_load_2 20 rfl rfl)
theorem dX9_load_66 : decode cX9_load 66 = .ok (.ldc_w 273, 3) := dk_19 1 17 (dk_at dksX9_load_2 21 rfl rfl)
theorem dX9_load_69 : decode cX9_load 69 = .ok (.invokevirtual 262, 3) := dk_182 1 6 (dk_at dksX9_load_3 0 rfl rfl)
theorem dX9_load_72 : decode cX9_load 72 = .ok (.invokevirtual 266, 3) := dk_182 1 10 (dk_at dksX9_load_3 3 rfl rfl)
theorem dX9_load_75 : decode cX9_load 75 = .ok (.aload_n 0, 1) := dk_42 (dk_at dksX9_load_3 6 rfl rfl)
theorem dX9_load_76 : decode cX9_load 76 = .ok (.iconst 0, 1) := dk_3 (dk_at dksX9_load_3 7 rfl rfl)
theorem dX9_load_77 : decode cX9_load 77 = .ok (.iload_n 1, 1) := dk_27 (dk_at dksX9_load_3 8 rfl rfl)
theorem dX9_load_78 : decode cX9_load 78 = .ok (.iconst 1, 1) := dk_4 (dk_at dksX9_load_3 9 rfl rfl)
theorem dX9_load_79 : decode cX9_load 79 = .ok (.isub, 1) := dk_100 (dk_at dksX9_load_3 10 rfl rfl)
theorem dX9_load_80 : decode cX9_load 80 = .ok (.invokevirtual 270, 3) := dk_182 1 14 (dk_at dksX9_load_3 11 rfl rfl)
theorem dX9_load_83 : decode cX9_load 83 = .ok (.istore_n 3, 1) := dk_62 (dk_at dksX9_load_3 14 rfl rfl)
theorem dX9_load_84 : decode cX9_load 84 = .ok (.aload_n 0, 1) := dk_42 (dk_at dksX9_load_3 15 rfl rfl)
theorem dX9_load_85 : decode cX9_load 85 = .ok (.iconst 0, 1) := dk_3 (dk_at dksX9_load_3 16 rfl rfl)
theorem dX9_load_86 : decode cX9_load 86 = .ok (.iload_n 2, 1) := dk_28 (dk_at dksX9_load_3 17 rfl rfl)
theorem dX9_load_87 : decode cX9_load 87 = .ok (.iconst 1, 1) := dk_4 (dk_at dksX9_load_3 18 rfl rfl)
theorem dX9_load_88 : decode cX9_load 88 = .ok (.isub, 1) := dk_100 (dk_at dksX9_load_3 19 rfl rfl)
theorem dX9_load_89 : decode cX9_load 89 = .ok (.invokevirtual 270, 3) := dk_182 1 14 (dk_at dksX9_load_3 20 rfl rfl)
theorem dX9_load_92 : decode cX9_load 92 = .ok (.istore 4, 2) := dk_54 4 (dk_at dksX9_load_4 0 rfl rfl)
theorem dX9_load_94 : decode cX9_load 94 = .ok (.aload_n 0, 1) := dk_42 (dk_at dksX9_load_4 2 rfl rfl)
theorem dX9_load_95 : decode cX9_load 95 = .ok (.iconst 0, 1) := dk_3 (dk_at dksX9_load_4 3 rfl rfl)
theorem dX9_load_96 : decode cX9_load 96 = .ok (.iconst 3, 1) := dk_6 (dk_at dksX9_load_4 4 rfl rfl)
theorem dX9_load_97 : decode cX9_load 97 = .ok (.invokevirtual 270, 3) := dk_182 1 14 (dk_at dksX9_load_4 5 rfl rfl)
theorem dX9_load_100 : decode cX9_load 100 = .ok (.istore 5, 2) := dk_54 5 (dk_at dksX9_load_4 8 rfl rfl)
theorem dX9_load_102 : decode cX9_load 102 = .ok (.aload_n 0, 1) := dk_42 (dk_at dksX9_load_4 10 rfl rfl)
theorem dX9_load_103 : decode cX9_load 103 = .ok (.invokevirtual 274, 3) := dk_182 1 18 (dk_at dksX9_load_4 11 rfl rfl)
theorem dX9_load_106 : decode cX9_load 106 = .ok (.aload_n 0, 1) := dk_42 (dk_at dksX9_load_4 14 rfl rfl)
theorem dX9_load_107 : decode cX9_load 107 = .ok (.getfield 248, 3) := dk_180 0 248 (dk_at dksX9_load_4 15 rfl rfl)
theorem dX9_load_110 : decode cX9_load 110 = .ok (.ifCond .ne 30, 3) := dk_154 0 30 (dk_at dksX9_load_4 18 rfl rfl)
theorem dX9_load_113 : decode cX9_load 113 = .ok (.aload_n 0, 1) := dk_42 (dk_at dksX9_load_4 21 rfl rfl)
theorem dX9_load_114 : decode cX9_load 114 = .ok (.iload_n 1, 1) := dk_27 (dk_at dksX9_load_4 22 rfl rfl)
theorem dX9_load_115 : decode cX9_load 115 = .ok (.iload_n 2, 1) := dk_28 (dk_at dksX9_load_4 23 rfl rfl)
theorem dX9_load_116 : decode cX9_load 116 = .ok (.invokevirtual 71, 3) := dk_182 0 71 (dk_at dksX9_load_5 0 rfl rfl)
theorem dX9_load_119 : decode cX9_load 119 = .ok (.aload_n 0, 1) := dk_42 (dk_at dksX9_load_5 3 rfl rfl)
theorem dX9_load_120 : decode cX9_load 120 = .ok (.iload_n 3, 1) := dk_29 (dk_at dksX9_load_5 4 rfl rfl)
theorem dX9_load_121 : decode cX9_load 121 = .ok (.iload 4, 2) := dk_21 4 (dk_at dksX9_load_5 5 rfl rfl)
theorem dX9_load_123 : decode cX9_load 123 = .ok (.bipush 7, 2) := dk_16 7 (dk_at dksX9_load_5 7 rfl rfl)
theorem dX9_load_125 : decode cX9_load 125 = .ok (.iload 5, 2) := dk_21 5 (dk_at dksX9_load_5 9 rfl rfl)
theorem dX9_load_127 : decode cX9_load 127 = .ok (.iconst 0, 1) := dk_3 (dk_at dksX9_load_5 11 rfl rfl)
theorem dX9_load_128 : decode cX9_load 128 = .ok (.invokevirtual 75, 3) := dk_182 0 75 (dk_at dksX9_load_5 12 rfl rfl)
theorem dX9_load_131 : decode cX9_load 131 = .ok (.aload_n 0, 1) := dk_42 (dk_at dksX9_load_5 15 rfl rfl)
theorem dX9_load_132 : decode cX9_load 132 = .ok (.invokevirtual 79, 3) := dk_182 0 79 (dk_at dksX9_load_5 16 rfl rfl)
theorem dX9_load_135 : decode cX9_load 135 = .ok (.pop, 1) := dk_87 (dk_at dksX9_load_5 19 rfl rfl)
theorem dX9_load_136 : decode cX9_load 136 = .ok (.aload_n 0, 1) := dk_42 (dk_at dksX9_load_5 20 rfl rfl)
theorem dX9_load_137 : decode cX9_load 137 = .ok (.invokevirtual 254, 3) := dk_182 0 254 (dk_at dksX9_load_5 21 rfl rfl)
theorem dX9_load_140 : decode cX9_load 140 = .ok (.aload_n 0, 1) := dk_42 (dk_at dksX9_load_6 0 rfl rfl)
theorem dX9_load_141 : decode cX9_load 141 = .ok (.getfield 248, 3) := dk_180 0 248 (dk_at dksX9_load_6 1 rfl rfl)
theorem dX9_load_144 : decode cX9_load 144 = .ok (.ifCond .ne 28, 3) := dk_154 0 28 (dk_at dksX9_load_6 4 rfl rfl)
theorem dX9_load_147 : decode cX9_load 147 = .ok (.aload_n 0, 1) := dk_42 (dk_at dksX9_load_6 7 rfl rfl)
theorem dX9_load_148 : decode cX9_load 148 = .ok (.getfield 227, 3) := dk_180 0 227 (dk_at dksX9_load_6 8 rfl rfl)
theorem dX9_load_151 : decode cX9_load 151 = .ok (.ifCond .eq 21, 3) := dk_153 0 21 (dk_at dksX9_load_6 11 rfl rfl)
theorem dX9_load_154 : decode cX9_load 154 = .ok (.aload_n 0, 1) := dk_42 (dk_at dksX9_load_6 14 rfl rfl)
theorem dX9_load_155 : decode cX9_load 155 = .ok (.invokevirtual 277, 3) := dk_182 1 21 (dk_at dksX9_load_6 15 rfl rfl)
theorem dX9_load_158 : decode cX9_load 158 = .ok (.aload_n 0, 1) := dk_42 (dk_at dksX9_load_6 18 rfl rfl)
theorem dX9_load_159 : decode cX9_load 159 = .ok (.getfield 248, 3) := dk_180 0 248 (dk_at dksX9_load_6 19 rfl rfl)
theorem dX9_load_162 : decode cX9_load 162 = .ok (.ifCond .ne (-22), 3) := dk_154 255 234 (dk_at dksX9_load_7 0 rfl rfl)
theorem dX9_load_165 : decode cX9_load 165 = .ok (.aload_n 0, 1) := dk_42 (dk_at dksX9_load_7 3 rfl rfl)
theorem dX9_load_166 : decode cX9_load 166 = .ok (.invokevirtual 254, 3) := dk_182 0 254 (dk_at dksX9_load_7 4 rfl rfl)
theorem dX9_load_169 : decode cX9_load 169 = .ok (.goto (-29), 3) := dk_167 255 227 (dk_at dksX9_load_7 7 rfl rfl)
theorem dX9_load_172 : decode cX9_load 172 = .ok (.aload_n 0, 1) := dk_42 (dk_at dksX9_load_7 10 rfl rfl)
theorem dX9_load_173 : decode cX9_load 173 = .ok (.iconst 0, 1) := dk_3 (dk_at dksX9_load_7 11 rfl rfl)
theorem dX9_load_174 : decode cX9_load 174 = .ok (.putfield 218, 3) := dk_181 0 218 (dk_at dksX9_load_7 12 rfl rfl)
theorem dX9_load_177 : decode cX9_load 177 = .ok (.aload_n 0, 1) := dk_42 (dk_at dksX9_load_7 15 rfl rfl)
theorem dX9_load_178 : decode cX9_load 178 = .ok (.getfield 248, 3) := dk_180 0 248 (dk_at dksX9_load_7 16 rfl rfl)
theorem dX9_load_181 : decode cX9_load 181 = .ok (.ifCond .eq 22, 3) := dk_153 0 22 (dk_at dksX9_load_7 19 rfl rfl)
theorem dX9_load_184 : decode cX9_load 184 = .ok (.aload_n 0, 1) := dk_42 (dk_at dksX9_load_7 22 rfl rfl)
theorem dX9_load_185 : decode cX9_load 185 = .ok (.getfield 25, 3) := dk_180 0 25 (dk_at dksX9_load_8 0 rfl rfl)
theorem dX9_load_188 : decode cX9_load 188 = .ok (.aload_n 0, 1) := dk_42 (dk_at dksX9_load_8 3 rfl rfl)
theorem dX9_load_189 : decode cX9_load 189 = .ok (.getfield 9, 3) := dk_180 0 9 (dk_at dksX9_load_8 4 rfl rfl)
theorem dX9_load_192 : decode cX9_load 192 = .ok (.invokestatic 94, 3) := dk_184 0 94 (dk_at dksX9_load_8 7 rfl rfl)
theorem dX9_load_195 : decode cX9_load 195 = .ok (.bipush (-30), 2) := dk_16 226 (dk_at dksX9_load_8 10 rfl rfl)
theorem dX9_load_197 : decode cX9_load 197 = .ok (.aload_n 0, 1) := dk_42 (dk_at dksX9_load_8 12 rfl rfl)
theorem dX9_load_198 : decode cX9_load 198 = .ok (.getfield 248, 3) := dk_180 0 248 (dk_at dksX9_load_8 13 rfl rfl)
theorem dX9_load_201 : decode cX9_load 201 = .ok (.isub, 1) := dk_100 (dk_at dksX9_load_8 16 rfl rfl)
theorem dX9_load_202 : decode cX9_load 202 = .ok (.ireturn, 1) := dk_172 (dk_at dksX9_load_8 17 rfl rfl)
theorem dX9_load_203 : decode cX9_load 203 = .ok (.aload_n 0, 1) := dk_42 (dk_at dksX9_load_8 18 rfl rfl)
theorem dX9_load_204 : decode cX9_load 204 = .ok (.aload_n 0, 1) := dk_42 (dk_at dksX9_load_8 19 rfl rfl)
theorem dX9_load_205 : decode cX9_load 205 = .ok (.getfield 25, 3) := dk_180 0 25 (dk_at dksX9_load_8 20 rfl rfl)
theorem dX9_load_208 : decode cX9_load 208 = .ok (.invokevirtual 187, 3) := dk_182 0 187 (dk_at dksX9_load_9 0 rfl rfl)
theorem dX9_load_211 : decode cX9_load 211 = .ok (.aload_n 0, 1) := dk_42 (dk_at dksX9_load_9 3 rfl rfl)
theorem dX9_load_212 : decode cX9_load 212 = .ok (.iconst 2, 1) := dk_5 (dk_at dksX9_load_9 4 rfl rfl)
theorem dX9_load_213 : decode cX9_load 213 = .ok (.invokevirtual 161, 3) := dk_182 0 161 (dk_at dksX9_load_9 5 rfl rfl)
theorem dX9_load_216 : decode cX9_load 216 = .ok (.ireturn, 1) := dk_172 (dk_at dksX9_load_9 8 rfl rfl)
abbrev cX9_next : ByteArray := prog_15_method_60_code
def yX9_next : MethodName := ⟨RX9, "next", "()V"⟩
def dkwX9_next_11 : List UInt8 := [180, 0, 221, 4, 96, 181, 0, 221, 177]
abbrev dktX9_next_11 : List UInt8 := dkwX9_next_11 ++ []
def dkwX9_next_10 : List UInt8 := [180, 0, 43, 42, 180, 0, 221, 46, 16, 59, 160, 0, 7, 4, 167, 0, 4, 7, 181, 0, 227, 42, 89]
abbrev dktX9_next_10 : List UInt8 := dkwX9_next_10 ++ dktX9_next_11
def dkwX9_next_9 : List UInt8 := [42, 180, 0, 224, 100, 7, 164, 0, 7, 7, 167, 0, 4, 5, 181, 0, 227, 167, 0, 36, 42, 42]
abbrev dktX9_next_9 : List UInt8 := dkwX9_next_9 ++ dktX9_next_10
def dkwX9_next_8 : List UInt8 := [180, 0, 236, 181, 0, 236, 42, 89, 180, 0, 221, 4, 96, 181, 0, 221, 167, 255, 191, 42, 42, 180, 0, 221]
abbrev dktX9_next_8 : List UInt8 := dkwX9_next_8 ++ dktX9_next_9
def dkwX9_next_7 : List UInt8 := [16, 10, 42, 180, 0, 236, 104, 42, 180, 0, 43, 42, 180, 0, 221, 46, 96, 16, 48, 100, 167, 0, 7, 42]
abbrev dktX9_next_7 : List UInt8 := dkwX9_next_7 ++ dktX9_next_8
def dkwX9_next_6 : List UInt8 := [180, 0, 221, 182, 0, 233, 153, 0, 60, 42, 42, 180, 0, 221, 42, 180, 0, 224, 100, 7, 162, 0, 26]
abbrev dktX9_next_6 : List UInt8 := dkwX9_next_6 ++ dktX9_next_7
def dkwX9_next_5 : List UInt8 := [181, 0, 227, 167, 0, 145, 42, 42, 180, 0, 221, 182, 0, 233, 153, 0, 101, 42, 3, 181, 0, 236, 42, 42]
abbrev dktX9_next_5 : List UInt8 := dkwX9_next_5 ++ dktX9_next_6
def dkwX9_next_4 : List UInt8 := [180, 0, 221, 182, 0, 230, 153, 0, 16, 42, 89, 180, 0, 221, 4, 96, 181, 0, 221, 167, 255, 235, 42, 6]
abbrev dktX9_next_4 : List UInt8 := dkwX9_next_4 ++ dktX9_next_5
def dkwX9_next_3 : List UInt8 := [160, 0, 11, 42, 3, 181, 0, 227, 167, 0, 188, 42, 42, 180, 0, 221, 182, 0, 230, 153, 0, 35, 42, 42]
abbrev dktX9_next_3 : List UInt8 := dkwX9_next_3 ++ dktX9_next_4
def dkwX9_next_2 : List UInt8 := [181, 0, 221, 167, 255, 207, 42, 42, 180, 0, 221, 181, 0, 224, 42, 180, 0, 221, 42, 180, 0, 218]
abbrev dktX9_next_2 : List UInt8 := dkwX9_next_2 ++ dktX9_next_3
def dkwX9_next_1 : List UInt8 := [159, 0, 17, 42, 180, 0, 43, 42, 180, 0, 221, 46, 16, 10, 160, 0, 16, 42, 89, 180, 0, 221, 4, 96]
abbrev dktX9_next_1 : List UInt8 := dkwX9_next_1 ++ dktX9_next_2
def dkwX9_next_0 : List UInt8 := [42, 180, 0, 221, 42, 180, 0, 218, 162, 0, 44, 42, 180, 0, 43, 42, 180, 0, 221, 46, 16, 32]
abbrev dktX9_next_0 : List UInt8 := dkwX9_next_0 ++ dktX9_next_1
theorem dksX9_next_0 : cX9_next.data.toList.drop 0 = dktX9_next_0 := by decide +kernel
theorem dksX9_next_1 : cX9_next.data.toList.drop 22 = dktX9_next_1 := dk_seg dksX9_next_0 22 rfl rfl
theorem dksX9_next_2 : cX9_next.data.toList.drop 46 = dktX9_next_2 := dk_seg dksX9_next_1 24 rfl rfl
theorem dksX9_next_3 : cX9_next.data.toList.drop 68 = dktX9_next_3 := dk_seg dksX9_next_2 22 rfl rfl
theorem dksX9_next_4 : cX9_next.data.toList.drop 92 = dktX9_next_4 := dk_seg dksX9_next_3 24 rfl rfl
theorem dksX9_next_5 : cX9_next.data.toList.drop 116 = dktX9_next_5 := dk_seg dksX9_next_4 24 rfl rfl
theorem dksX9_next_6 : cX9_next.data.toList.drop 140 = dktX9_next_6 := dk_seg dksX9_next_5 24 rfl rfl
theorem dksX9_next_7 : cX9_next.data.toList.drop 163 = dktX9_next_7 := dk_seg dksX9_next_6 23 rfl rfl
theorem dksX9_next_8 : cX9_next.data.toList.drop 187 = dktX9_next_8 := dk_seg dksX9_next_7 24 rfl rfl
theorem dksX9_next_9 : cX9_next.data.toList.drop 211 = dktX9_next_9 := dk_seg dksX9_next_8 24 rfl rfl
theorem dksX9_next_10 : cX9_next.data.toList.drop 233 = dktX9_next_10 := dk_seg dksX9_next_9 22 rfl rfl
theorem dksX9_next_11 : cX9_next.data.toList.drop 256 = dktX9_next_11 := dk_seg dksX9_next_10 23 rfl rfl
theorem dX9_next_0 : decode cX9_next 0 = .ok (.aload_n 0, 1) := dk_42 (dk_at dksX9_next_0 0 rfl rfl)
theorem dX9_next_1 : decode cX9_next 1 = .ok (.getfield 221, 3) := dk_180 0 221 (dk_at dksX9_next_0 1 rfl rfl)
theorem dX9_next_4 : decode cX9_next 4 = .ok (.aload_n 0, 1) := dk_42 (dk_at dksX9_next_0 4 rfl rfl)
theorem dX9_next_5 : decode cX9_next 5 = .ok (.getfield 218, 3) := dk_180 0 218 (dk_at dksX9_next_0 5 rfl rfl)
theorem dX9_next_8 : decode cX9_next 8 = .ok (.if_icmp .ge 44, 3) := dk_162 0 44 (dk_at dksX9_next_0 8 rfl rfl)
theorem dX9_next_11 : decode cX9_next 11 = .ok (.aload_n 0, 1) := dk_42 (dk_at dksX9_next_0 11 rfl rfl)
theorem dX9_next_12 : decode cX9_next 12 = .ok (.getfield 43, 3) := dk_180 0 43 (dk_at dksX9_next_0 12 rfl rfl)
theorem dX9_next_15 : decode cX9_next 15 = .ok (.aload_n 0, 1) := dk_42 (dk_at dksX9_next_0 15 rfl rfl)
theorem dX9_next_16 : decode cX9_next 16 = .ok (.getfield 221, 3) := dk_180 0 221 (dk_at dksX9_next_0 16 rfl rfl)
theorem dX9_next_19 : decode cX9_next 19 = .ok (.iaload, 1) := dk_46 (dk_at dksX9_next_0 19 rfl rfl)
theorem dX9_next_20 : decode cX9_next 20 = .ok (.bipush 32, 2) := dk_16 32 (dk_at dksX9_next_0 20 rfl rfl)
theorem dX9_next_22 : decode cX9_next 22 = .ok (.if_icmp .eq 17, 3) := dk_159 0 17 (dk_at dksX9_next_1 0 rfl rfl)
theorem dX9_next_25 : decode cX9_next 25 = .ok (.aload_n 0, 1) := dk_42 (dk_at dksX9_next_1 3 rfl rfl)
theorem dX9_next_26 : decode cX9_next 26 = .ok (.getfield 43, 3) := dk_180 0 43 (dk_at dksX9_next_1 4 rfl rfl)
theorem dX9_next_29 : decode cX9_next 29 = .ok (.aload_n 0, 1) := dk_42 (dk_at dksX9_next_1 7 rfl rfl)
theorem dX9_next_30 : decode cX9_next 30 = .ok (.getfield 221, 3) := dk_180 0 221 (dk_at dksX9_next_1 8 rfl rfl)
theorem dX9_next_33 : decode cX9_next 33 = .ok (.iaload, 1) := dk_46 (dk_at dksX9_next_1 11 rfl rfl)
theorem dX9_next_34 : decode cX9_next 34 = .ok (.bipush 10, 2) := dk_16 10 (dk_at dksX9_next_1 12 rfl rfl)
theorem dX9_next_36 : decode cX9_next 36 = .ok (.if_icmp .ne 16, 3) := dk_160 0 16 (dk_at dksX9_next_1 14 rfl rfl)
theorem dX9_next_39 : decode cX9_next 39 = .ok (.aload_n 0, 1) := dk_42 (dk_at dksX9_next_1 17 rfl rfl)
theorem dX9_next_40 : decode cX9_next 40 = .ok (.dup, 1) := dk_89 (dk_at dksX9_next_1 18 rfl rfl)
theorem dX9_next_41 : decode cX9_next 41 = .ok (.getfield 221, 3) := dk_180 0 221 (dk_at dksX9_next_1 19 rfl rfl)
theorem dX9_next_44 : decode cX9_next 44 = .ok (.iconst 1, 1) := dk_4 (dk_at dksX9_next_1 22 rfl rfl)
theorem dX9_next_45 : decode cX9_next 45 = .ok (.iadd, 1) := dk_96 (dk_at dksX9_next_1 23 rfl rfl)
theorem dX9_next_46 : decode cX9_next 46 = .ok (.putfield 221, 3) := dk_181 0 221 (dk_at dksX9_next_2 0 rfl rfl)
theorem dX9_next_49 : decode cX9_next 49 = .ok (.goto (-49), 3) := dk_167 255 207 (dk_at dksX9_next_2 3 rfl rfl)
theorem dX9_next_52 : decode cX9_next 52 = .ok (.aload_n 0, 1) := dk_42 (dk_at dksX9_next_2 6 rfl rfl)
theorem dX9_next_53 : decode cX9_next 53 = .ok (.aload_n 0, 1) := dk_42 (dk_at dksX9_next_2 7 rfl rfl)
theorem dX9_next_54 : decode cX9_next 54 = .ok (.getfield 221, 3) := dk_180 0 221 (dk_at dksX9_next_2 8 rfl rfl)
theorem dX9_next_57 : decode cX9_next 57 = .ok (.putfield 224, 3) := dk_181 0 224 (dk_at dksX9_next_2 11 rfl rfl)
theorem dX9_next_60 : decode cX9_next 60 = .ok (.aload_n 0, 1) := dk_42 (dk_at dksX9_next_2 14 rfl rfl)
theorem dX9_next_61 : decode cX9_next 61 = .ok (.getfield 221, 3) := dk_180 0 221 (dk_at dksX9_next_2 15 rfl rfl)
theorem dX9_next_64 : decode cX9_next 64 = .ok (.aload_n 0, 1) := dk_42 (dk_at dksX9_next_2 18 rfl rfl)
theorem dX9_next_65 : decode cX9_next 65 = .ok (.getfield 218, 3) := dk_180 0 218 (dk_at dksX9_next_2 19 rfl rfl)
theorem dX9_next_68 : decode cX9_next 68 = .ok (.if_icmp .ne 11, 3) := dk_160 0 11 (dk_at dksX9_next_3 0 rfl rfl)
theorem dX9_next_71 : decode cX9_next 71 = .ok (.aload_n 0, 1) := dk_42 (dk_at dksX9_next_3 3 rfl rfl)
theorem dX9_next_72 : decode cX9_next 72 = .ok (.iconst 0, 1) := dk_3 (dk_at dksX9_next_3 4 rfl rfl)
theorem dX9_next_73 : decode cX9_next 73 = .ok (.putfield 227, 3) := dk_181 0 227 (dk_at dksX9_next_3 5 rfl rfl)
theorem dX9_next_76 : decode cX9_next 76 = .ok (.goto 188, 3) := dk_167 0 188 (dk_at dksX9_next_3 8 rfl rfl)
theorem dX9_next_79 : decode cX9_next 79 = .ok (.aload_n 0, 1) := dk_42 (dk_at dksX9_next_3 11 rfl rfl)
theorem dX9_next_80 : decode cX9_next 80 = .ok (.aload_n 0, 1) := dk_42 (dk_at dksX9_next_3 12 rfl rfl)
theorem dX9_next_81 : decode cX9_next 81 = .ok (.getfield 221, 3) := dk_180 0 221 (dk_at dksX9_next_3 13 rfl rfl)
theorem dX9_next_84 : decode cX9_next 84 = .ok (.invokevirtual 230, 3) := dk_182 0 230 (dk_at dksX9_next_3 16 rfl rfl)
theorem dX9_next_87 : decode cX9_next 87 = .ok (.ifCond .eq 35, 3) := dk_153 0 35 (dk_at dksX9_next_3 19 rfl rfl)
theorem dX9_next_90 : decode cX9_next 90 = .ok (.aload_n 0, 1) := dk_42 (dk_at dksX9_next_3 22 rfl rfl)
theorem dX9_next_91 : decode cX9_next 91 = .ok (.aload_n 0, 1) := dk_42 (dk_at dksX9_next_3 23 rfl rfl)
theorem dX9_next_92 : decode cX9_next 92 = .ok (.getfield 221, 3) := dk_180 0 221 (dk_at dksX9_next_4 0 rfl rfl)
theorem dX9_next_95 : decode cX9_next 95 = .ok (.invokevirtual 230, 3) := dk_182 0 230 (dk_at dksX9_next_4 3 rfl rfl)
theorem dX9_next_98 : decode cX9_next 98 = .ok (.ifCond .eq 16, 3) := dk_153 0 16 (dk_at dksX9_next_4 6 rfl rfl)
theorem dX9_next_101 : decode cX9_next 101 = .ok (.aload_n 0, 1) := dk_42 (dk_at dksX9_next_4 9 rfl rfl)
theorem dX9_next_102 : decode cX9_next 102 = .ok (.dup, 1) := dk_89 (dk_at dksX9_next_4 10 rfl rfl)
theorem dX9_next_103 : decode cX9_next 103 = .ok (.getfield 221, 3) := dk_180 0 221 (dk_at dksX9_next_4 11 rfl rfl)
theorem dX9_next_106 : decode cX9_next 106 = .ok (.iconst 1, 1) := dk_4 (dk_at dksX9_next_4 14 rfl rfl)
theorem dX9_next_107 : decode cX9_next 107 = .ok (.iadd, 1) := dk_96 (dk_at dksX9_next_4 15 rfl rfl)
theorem dX9_next_108 : decode cX9_next 108 = .ok (.putfield 221, 3) := dk_181 0 221 (dk_at dksX9_next_4 16 rfl rfl)
theorem dX9_next_111 : decode cX9_next 111 = .ok (.goto (-21), 3) := dk_167 255 235 (dk_at dksX9_next_4 19 rfl rfl)
theorem dX9_next_114 : decode cX9_next 114 = .ok (.aload_n 0, 1) := dk_42 (dk_at dksX9_next_4 22 rfl rfl)
theorem dX9_next_115 : decode cX9_next 115 = .ok (.iconst 3, 1) := dk_6 (dk_at dksX9_next_4 23 rfl rfl)
theorem dX9_next_116 : decode cX9_next 116 = .ok (.putfield 227, 3) := dk_181 0 227 (dk_at dksX9_next_5 0 rfl rfl)
theorem dX9_next_119 : decode cX9_next 119 = .ok (.goto 145, 3) := dk_167 0 145 (dk_at dksX9_next_5 3 rfl rfl)
theorem dX9_next_122 : decode cX9_next 122 = .ok (.aload_n 0, 1) := dk_42 (dk_at dksX9_next_5 6 rfl rfl)
theorem dX9_next_123 : decode cX9_next 123 = .ok (.aload_n 0, 1) := dk_42 (dk_at dksX9_next_5 7 rfl rfl)
theorem dX9_next_124 : decode cX9_next 124 = .ok (.getfield 221, 3) := dk_180 0 221 (dk_at dksX9_next_5 8 rfl rfl)
theorem dX9_next_127 : decode cX9_next 127 = .ok (.invokevirtual 233, 3) := dk_182 0 233 (dk_at dksX9_next_5 11 rfl rfl)
theorem dX9_next_130 : decode cX9_next 130 = .ok (.ifCond .eq 101, 3) := dk_153 0 101 (dk_at dksX9_next_5 14 rfl rfl)
theorem dX9_next_133 : decode cX9_next 133 = .ok (.aload_n 0, 1) := dk_42 (dk_at dksX9_next_5 17 rfl rfl)
theorem dX9_next_134 : decode cX9_next 134 = .ok (.iconst 0, 1) := dk_3 (dk_at dksX9_next_5 18 rfl rfl)
theorem dX9_next_135 : decode cX9_next 135 = .ok (.putfield 236, 3) := dk_181 0 236 (dk_at dksX9_next_5 19 rfl rfl)
theorem dX9_next_138 : decode cX9_next 138 = .ok (.aload_n 0, 1) := dk_42 (dk_at dksX9_next_5 22 rfl rfl)
theorem dX9_next_139 : decode cX9_next 139 = .ok (.aload_n 0, 1) := dk_42 (dk_at dksX9_next_5 23 rfl rfl)
theorem dX9_next_140 : decode cX9_next 140 = .ok (.getfield 221, 3) := dk_180 0 221 (dk_at dksX9_next_6 0 rfl rfl)
theorem dX9_next_143 : decode cX9_next 143 = .ok (.invokevirtual 233, 3) := dk_182 0 233 (dk_at dksX9_next_6 3 rfl rfl)
theorem dX9_next_146 : decode cX9_next 146 = .ok (.ifCond .eq 60, 3) := dk_153 0 60 (dk_at dksX9_next_6 6 rfl rfl)
theorem dX9_next_149 : decode cX9_next 149 = .ok (.aload_n 0, 1) := dk_42 (dk_at dksX9_next_6 9 rfl rfl)
theorem dX9_next_150 : decode cX9_next 150 = .ok (.aload_n 0, 1) := dk_42 (dk_at dksX9_next_6 10 rfl rfl)
theorem dX9_next_151 : decode cX9_next 151 = .ok (.getfield 221, 3) := dk_180 0 221 (dk_at dksX9_next_6 11 rfl rfl)
theorem dX9_next_154 : decode cX9_next 154 = .ok (.aload_n 0, 1) := dk_42 (dk_at dksX9_next_6 14 rfl rfl)
theorem dX9_next_155 : decode cX9_next 155 = .ok (.getfield 224, 3) := dk_180 0 224 (dk_at dksX9_next_6 15 rfl rfl)
theorem dX9_next_158 : decode cX9_next 158 = .ok (.isub, 1) := dk_100 (dk_at dksX9_next_6 18 rfl rfl)
theorem dX9_next_159 : decode cX9_next 159 = .ok (.iconst 4, 1) := dk_7 (dk_at dksX9_next_6 19 rfl rfl)
theorem dX9_next_160 : decode cX9_next 160 = .ok (.if_icmp .ge 26, 3) := dk_162 0 26 (dk_at dksX9_next_6 20 rfl rfl)
theorem dX9_next_163 : decode cX9_next 163 = .ok (.bipush 10, 2) := dk_16 10 (dk_at dksX9_next_7 0 rfl rfl)
theorem dX9_next_165 : decode cX9_next 165 = .ok (.aload_n 0, 1) := dk_42 (dk_at dksX9_next_7 2 rfl rfl)
theorem dX9_next_166 : decode cX9_next 166 = .ok (.getfield 236, 3) := dk_180 0 236 (dk_at dksX9_next_7 3 rfl rfl)
theorem dX9_next_169 : decode cX9_next 169 = .ok (.imul, 1) := dk_104 (dk_at dksX9_next_7 6 rfl rfl)
theorem dX9_next_170 : decode cX9_next 170 = .ok (.aload_n 0, 1) := dk_42 (dk_at dksX9_next_7 7 rfl rfl)
theorem dX9_next_171 : decode cX9_next 171 = .ok (.getfield 43, 3) := dk_180 0 43 (dk_at dksX9_next_7 8 rfl rfl)
theorem dX9_next_174 : decode cX9_next 174 = .ok (.aload_n 0, 1) := dk_42 (dk_at dksX9_next_7 11 rfl rfl)
theorem dX9_next_175 : decode cX9_next 175 = .ok (.getfield 221, 3) := dk_180 0 221 (dk_at dksX9_next_7 12 rfl rfl)
theorem dX9_next_178 : decode cX9_next 178 = .ok (.iaload, 1) := dk_46 (dk_at dksX9_next_7 15 rfl rfl)
theorem dX9_next_179 : decode cX9_next 179 = .ok (.iadd, 1) := dk_96 (dk_at dksX9_next_7 16 rfl rfl)
theorem dX9_next_180 : decode cX9_next 180 = .ok (.bipush 48, 2) := dk_16 48 (dk_at dksX9_next_7 17 rfl rfl)
theorem dX9_next_182 : decode cX9_next 182 = .ok (.isub, 1) := dk_100 (dk_at dksX9_next_7 19 rfl rfl)
theorem dX9_next_183 : decode cX9_next 183 = .ok (.goto 7, 3) := dk_167 0 7 (dk_at dksX9_next_7 20 rfl rfl)
theorem dX9_next_186 : decode cX9_next 186 = .ok (.aload_n 0, 1) := dk_42 (dk_at dksX9_next_7 23 rfl rfl)
theorem dX9_next_187 : decode cX9_next 187 = .ok (.getfield 236, 3) := dk_180 0 236 (dk_at dksX9_next_8 0 rfl rfl)
theorem dX9_next_190 : decode cX9_next 190 = .ok (.putfield 236, 3) := dk_181 0 236 (dk_at dksX9_next_8 3 rfl rfl)
theorem dX9_next_193 : decode cX9_next 193 = .ok (.aload_n 0, 1) := dk_42 (dk_at dksX9_next_8 6 rfl rfl)
theorem dX9_next_194 : decode cX9_next 194 = .ok (.dup, 1) := dk_89 (dk_at dksX9_next_8 7 rfl rfl)
theorem dX9_next_195 : decode cX9_next 195 = .ok (.getfield 221, 3) := dk_180 0 221 (dk_at dksX9_next_8 8 rfl rfl)
theorem dX9_next_198 : decode cX9_next 198 = .ok (.iconst 1, 1) := dk_4 (dk_at dksX9_next_8 11 rfl rfl)
theorem dX9_next_199 : decode cX9_next 199 = .ok (.iadd, 1) := dk_96 (dk_at dksX9_next_8 12 rfl rfl)
theorem dX9_next_200 : decode cX9_next 200 = .ok (.putfield 221, 3) := dk_181 0 221 (dk_at dksX9_next_8 13 rfl rfl)
theorem dX9_next_203 : decode cX9_next 203 = .ok (.goto (-65), 3) := dk_167 255 191 (dk_at dksX9_next_8 16 rfl rfl)
theorem dX9_next_206 : decode cX9_next 206 = .ok (.aload_n 0, 1) := dk_42 (dk_at dksX9_next_8 19 rfl rfl)
theorem dX9_next_207 : decode cX9_next 207 = .ok (.aload_n 0, 1) := dk_42 (dk_at dksX9_next_8 20 rfl rfl)
theorem dX9_next_208 : decode cX9_next 208 = .ok (.getfield 221, 3) := dk_180 0 221 (dk_at dksX9_next_8 21 rfl rfl)
theorem dX9_next_211 : decode cX9_next 211 = .ok (.aload_n 0, 1) := dk_42 (dk_at dksX9_next_9 0 rfl rfl)
theorem dX9_next_212 : decode cX9_next 212 = .ok (.getfield 224, 3) := dk_180 0 224 (dk_at dksX9_next_9 1 rfl rfl)
theorem dX9_next_215 : decode cX9_next 215 = .ok (.isub, 1) := dk_100 (dk_at dksX9_next_9 4 rfl rfl)
theorem dX9_next_216 : decode cX9_next 216 = .ok (.iconst 4, 1) := dk_7 (dk_at dksX9_next_9 5 rfl rfl)
theorem dX9_next_217 : decode cX9_next 217 = .ok (.if_icmp .le 7, 3) := dk_164 0 7 (dk_at dksX9_next_9 6 rfl rfl)
theorem dX9_next_220 : decode cX9_next 220 = .ok (.iconst 4, 1) := dk_7 (dk_at dksX9_next_9 9 rfl rfl)
theorem dX9_next_221 : decode cX9_next 221 = .ok (.goto 4, 3) := dk_167 0 4 (dk_at dksX9_next_9 10 rfl rfl)
theorem dX9_next_224 : decode cX9_next 224 = .ok (.iconst 2, 1) := dk_5 (dk_at dksX9_next_9 13 rfl rfl)
theorem dX9_next_225 : decode cX9_next 225 = .ok (.putfield 227, 3) := dk_181 0 227 (dk_at dksX9_next_9 14 rfl rfl)
theorem dX9_next_228 : decode cX9_next 228 = .ok (.goto 36, 3) := dk_167 0 36 (dk_at dksX9_next_9 17 rfl rfl)
theorem dX9_next_231 : decode cX9_next 231 = .ok (.aload_n 0, 1) := dk_42 (dk_at dksX9_next_9 20 rfl rfl)
theorem dX9_next_232 : decode cX9_next 232 = .ok (.aload_n 0, 1) := dk_42 (dk_at dksX9_next_9 21 rfl rfl)
theorem dX9_next_233 : decode cX9_next 233 = .ok (.getfield 43, 3) := dk_180 0 43 (dk_at dksX9_next_10 0 rfl rfl)
theorem dX9_next_236 : decode cX9_next 236 = .ok (.aload_n 0, 1) := dk_42 (dk_at dksX9_next_10 3 rfl rfl)
theorem dX9_next_237 : decode cX9_next 237 = .ok (.getfield 221, 3) := dk_180 0 221 (dk_at dksX9_next_10 4 rfl rfl)
theorem dX9_next_240 : decode cX9_next 240 = .ok (.iaload, 1) := dk_46 (dk_at dksX9_next_10 7 rfl rfl)
theorem dX9_next_241 : decode cX9_next 241 = .ok (.bipush 59, 2) := dk_16 59 (dk_at dksX9_next_10 8 rfl rfl)
theorem dX9_next_243 : decode cX9_next 243 = .ok (.if_icmp .ne 7, 3) := dk_160 0 7 (dk_at dksX9_next_10 10 rfl rfl)
theorem dX9_next_246 : decode cX9_next 246 = .ok (.iconst 1, 1) := dk_4 (dk_at dksX9_next_10 13 rfl rfl)
theorem dX9_next_247 : decode cX9_next 247 = .ok (.goto 4, 3) := dk_167 0 4 (dk_at dksX9_next_10 14 rfl rfl)
theorem dX9_next_250 : decode cX9_next 250 = .ok (.iconst 4, 1) := dk_7 (dk_at dksX9_next_10 17 rfl rfl)
theorem dX9_next_251 : decode cX9_next 251 = .ok (.putfield 227, 3) := dk_181 0 227 (dk_at dksX9_next_10 18 rfl rfl)
theorem dX9_next_254 : decode cX9_next 254 = .ok (.aload_n 0, 1) := dk_42 (dk_at dksX9_next_10 21 rfl rfl)
theorem dX9_next_255 : decode cX9_next 255 = .ok (.dup, 1) := dk_89 (dk_at dksX9_next_10 22 rfl rfl)
theorem dX9_next_256 : decode cX9_next 256 = .ok (.getfield 221, 3) := dk_180 0 221 (dk_at dksX9_next_11 0 rfl rfl)
theorem dX9_next_259 : decode cX9_next 259 = .ok (.iconst 1, 1) := dk_4 (dk_at dksX9_next_11 3 rfl rfl)
theorem dX9_next_260 : decode cX9_next 260 = .ok (.iadd, 1) := dk_96 (dk_at dksX9_next_11 4 rfl rfl)
theorem dX9_next_261 : decode cX9_next 261 = .ok (.putfield 221, 3) := dk_181 0 221 (dk_at dksX9_next_11 5 rfl rfl)
theorem dX9_next_264 : decode cX9_next 264 = .ok (.return_, 1) := dk_177 (dk_at dksX9_next_11 8 rfl rfl)
abbrev cX9_letterAt : ByteArray := prog_15_method_58_code
def yX9_letterAt : MethodName := ⟨RX9, "letterAt", "(I)Z"⟩
def dkwX9_letterAt_1 : List UInt8 := [46, 16, 122, 163, 0, 7, 4, 167, 0, 4, 3, 172]
abbrev dktX9_letterAt_1 : List UInt8 := dkwX9_letterAt_1 ++ []
def dkwX9_letterAt_0 : List UInt8 := [27, 42, 180, 0, 218, 162, 0, 29, 42, 180, 0, 43, 27, 46, 16, 97, 161, 0, 18, 42, 180, 0, 43, 27]
abbrev dktX9_letterAt_0 : List UInt8 := dkwX9_letterAt_0 ++ dktX9_letterAt_1
theorem dksX9_letterAt_0 : cX9_letterAt.data.toList.drop 0 = dktX9_letterAt_0 := by decide +kernel
theorem dksX9_letterAt_1 : cX9_letterAt.data.toList.drop 24 = dktX9_letterAt_1 := dk_seg dksX9_letterAt_0 24 rfl rfl
theorem dX9_letterAt_0 : decode cX9_letterAt 0 = .ok (.iload_n 1, 1) := dk_27 (dk_at dksX9_letterAt_0 0 rfl rfl)
theorem dX9_letterAt_1 : decode cX9_letterAt 1 = .ok (.aload_n 0, 1) := dk_42 (dk_at dksX9_letterAt_0 1 rfl rfl)
theorem dX9_letterAt_2 : decode cX9_letterAt 2 = .ok (.getfield 218, 3) := dk_180 0 218 (dk_at dksX9_letterAt_0 2 rfl rfl)
theorem dX9_letterAt_5 : decode cX9_letterAt 5 = .ok (.if_icmp .ge 29, 3) := dk_162 0 29 (dk_at dksX9_letterAt_0 5 rfl rfl)
theorem dX9_letterAt_8 : decode cX9_letterAt 8 = .ok (.aload_n 0, 1) := dk_42 (dk_at dksX9_letterAt_0 8 rfl rfl)
theorem dX9_letterAt_9 : decode cX9_letterAt 9 = .ok (.getfield 43, 3) := dk_180 0 43 (dk_at dksX9_letterAt_0 9 rfl rfl)
theorem dX9_letterAt_12 : decode cX9_letterAt 12 = .ok (.iload_n 1, 1) := dk_27 (dk_at dksX9_letterAt_0 12 rfl rfl)
theorem dX9_letterAt_13 : decode cX9_letterAt 13 = .ok (.iaload, 1) := dk_46 (dk_at dksX9_letterAt_0 13 rfl rfl)
theorem dX9_letterAt_14 : decode cX9_letterAt 14 = .ok (.bipush 97, 2) := dk_16 97 (dk_at dksX9_letterAt_0 14 rfl rfl)
theorem dX9_letterAt_16 : decode cX9_letterAt 16 = .ok (.if_icmp .lt 18, 3) := dk_161 0 18 (dk_at dksX9_letterAt_0 16 rfl rfl)
theorem dX9_letterAt_19 : decode cX9_letterAt 19 = .ok (.aload_n 0, 1) := dk_42 (dk_at dksX9_letterAt_0 19 rfl rfl)
theorem dX9_letterAt_20 : decode cX9_letterAt 20 = .ok (.getfield 43, 3) := dk_180 0 43 (dk_at dksX9_letterAt_0 20 rfl rfl)
theorem dX9_letterAt_23 : decode cX9_letterAt 23 = .ok (.iload_n 1, 1) := dk_27 (dk_at dksX9_letterAt_0 23 rfl rfl)
theorem dX9_letterAt_24 : decode cX9_letterAt 24 = .ok (.iaload, 1) := dk_46 (dk_at dksX9_letterAt_1 0 rfl rfl)
theorem dX9_letterAt_25 : decode cX9_letterAt 25 = .ok (.bipush 122, 2) := dk_16 122 (dk_at dksX9_letterAt_1 1 rfl rfl)
theorem dX9_letterAt_27 : decode cX9_letterAt 27 = .ok (.if_icmp .gt 7, 3) := dk_163 0 7 (dk_at dksX9_letterAt_1 3 rfl rfl)
theorem dX9_letterAt_30 : decode cX9_letterAt 30 = .ok (.iconst 1, 1) := dk_4 (dk_at dksX9_letterAt_1 6 rfl rfl)
theorem dX9_letterAt_31 : decode cX9_letterAt 31 = .ok (.goto 4, 3) := dk_167 0 4 (dk_at dksX9_letterAt_1 7 rfl rfl)
theorem dX9_letterAt_34 : decode cX9_letterAt 34 = .ok (.iconst 0, 1) := dk_3 (dk_at dksX9_letterAt_1 10 rfl rfl)
theorem dX9_letterAt_35 : decode cX9_letterAt 35 = .ok (.ireturn, 1) := dk_172 (dk_at dksX9_letterAt_1 11 rfl rfl)
abbrev cX9_digitAt : ByteArray := prog_15_method_59_code
def yX9_digitAt : MethodName := ⟨RX9, "digitAt", "(I)Z"⟩
def dkwX9_digitAt_1 : List UInt8 := [46, 16, 57, 163, 0, 7, 4, 167, 0, 4, 3, 172]
abbrev dktX9_digitAt_1 : List UInt8 := dkwX9_digitAt_1 ++ []
def dkwX9_digitAt_0 : List UInt8 := [27, 42, 180, 0, 218, 162, 0, 29, 42, 180, 0, 43, 27, 46, 16, 48, 161, 0, 18, 42, 180, 0, 43, 27]
abbrev dktX9_digitAt_0 : List UInt8 := dkwX9_digitAt_0 ++ dktX9_digitAt_1
theorem dksX9_digitAt_0 : cX9_digitAt.data.toList.drop 0 = dktX9_digitAt_0 := by decide +kernel
theorem dksX9_digitAt_1 : cX9_digitAt.data.toList.drop 24 = dktX9_digitAt_1 := dk_seg dksX9_digitAt_0 24 rfl rfl
theorem dX9_digitAt_0 : decode cX9_digitAt 0 = .ok (.iload_n 1, 1) := dk_27 (dk_at dksX9_digitAt_0 0 rfl rfl)
theorem dX9_digitAt_1 : decode cX9_digitAt 1 = .ok (.aload_n 0, 1) := dk_42 (dk_at dksX9_digitAt_0 1 rfl rfl)
theorem dX9_digitAt_2 : decode cX9_digitAt 2 = .ok (.getfield 218, 3) := dk_180 0 218 (dk_at dksX9_digitAt_0 2 rfl rfl)
theorem dX9_digitAt_5 : decode cX9_digitAt 5 = .ok (.if_icmp .ge 29, 3) := dk_162 0 29 (dk_at dksX9_digitAt_0 5 rfl rfl)
theorem dX9_digitAt_8 : decode cX9_digitAt 8 = .ok (.aload_n 0, 1) := dk_42 (dk_at dksX9_digitAt_0 8 rfl rfl)
theorem dX9_digitAt_9 : decode cX9_digitAt 9 = .ok (.getfield 43, 3) := dk_180 0 43 (dk_at dksX9_digitAt_0 9 rfl rfl)
theorem dX9_digitAt_12 : decode cX9_digitAt 12 = .ok (.iload_n 1, 1) := dk_27 (dk_at dksX9_digitAt_0 12 rfl rfl)
theorem dX9_digitAt_13 : decode cX9_digitAt 13 = .ok (.iaload, 1) := dk_46 (dk_at dksX9_digitAt_0 13 rfl rfl)
theorem dX9_digitAt_14 : decode cX9_digitAt 14 = .ok (.bipush 48, 2) := dk_16 48 (dk_at dksX9_digitAt_0 14 rfl rfl)
theorem dX9_digitAt_16 : decode cX9_digitAt 16 = .ok (.if_icmp .lt 18, 3) := dk_161 0 18 (dk_at dksX9_digitAt_0 16 rfl rfl)
theorem dX9_digitAt_19 : decode cX9_digitAt 19 = .ok (.aload_n 0, 1) := dk_42 (dk_at dksX9_digitAt_0 19 rfl rfl)
theorem dX9_digitAt_20 : decode cX9_digitAt 20 = .ok (.getfield 43, 3) := dk_180 0 43 (dk_at dksX9_digitAt_0 20 rfl rfl)
theorem dX9_digitAt_23 : decode cX9_digitAt 23 = .ok (.iload_n 1, 1) := dk_27 (dk_at dksX9_digitAt_0 23 rfl rfl)
theorem dX9_digitAt_24 : decode cX9_digitAt 24 = .ok (.iaload, 1) := dk_46 (dk_at dksX9_digitAt_1 0 rfl rfl)
theorem dX9_digitAt_25 : decode cX9_digitAt 25 = .ok (.bipush 57, 2) := dk_16 57 (dk_at dksX9_digitAt_1 1 rfl rfl)
theorem dX9_digitAt_27 : decode cX9_digitAt 27 = .ok (.if_icmp .gt 7, 3) := dk_163 0 7 (dk_at dksX9_digitAt_1 3 rfl rfl)
theorem dX9_digitAt_30 : decode cX9_digitAt 30 = .ok (.iconst 1, 1) := dk_4 (dk_at dksX9_digitAt_1 6 rfl rfl)
theorem dX9_digitAt_31 : decode cX9_digitAt 31 = .ok (.goto 4, 3) := dk_167 0 4 (dk_at dksX9_digitAt_1 7 rfl rfl)
theorem dX9_digitAt_34 : decode cX9_digitAt 34 = .ok (.iconst 0, 1) := dk_3 (dk_at dksX9_digitAt_1 10 rfl rfl)
theorem dX9_digitAt_35 : decode cX9_digitAt 35 = .ok (.ireturn, 1) := dk_172 (dk_at dksX9_digitAt_1 11 rfl rfl)
abbrev cX9_isWord : ByteArray := prog_15_method_61_code
def yX9_isWord : MethodName := ⟨RX9, "isWord", "(Ljava/lang/String;)Z"⟩
def dkwX9_isWord_3 : List UInt8 := [167, 255, 216, 28, 172]
abbrev dktX9_isWord_3 : List UInt8 := dkwX9_isWord_3 ++ []
def dkwX9_isWord_2 : List UInt8 := [42, 180, 0, 224, 29, 96, 46, 43, 29, 182, 0, 244, 160, 0, 7, 4, 167, 0, 4, 3, 61, 132, 3, 1]
abbrev dktX9_isWord_2 : List UInt8 := dkwX9_isWord_2 ++ dktX9_isWord_3
def dkwX9_isWord_1 : List UInt8 := [4, 167, 0, 4, 3, 61, 3, 62, 28, 153, 0, 42, 29, 43, 182, 0, 239, 162, 0, 34, 42, 180, 0, 43]
abbrev dktX9_isWord_1 : List UInt8 := dkwX9_isWord_1 ++ dktX9_isWord_2
def dkwX9_isWord_0 : List UInt8 := [42, 180, 0, 227, 6, 160, 0, 23, 42, 180, 0, 221, 42, 180, 0, 224, 100, 43, 182, 0, 239, 160, 0, 7]
abbrev dktX9_isWord_0 : List UInt8 := dkwX9_isWord_0 ++ dktX9_isWord_1
theorem dksX9_isWord_0 : cX9_isWord.data.toList.drop 0 = dktX9_isWord_0 := by decide +kernel
theorem dksX9_isWord_1 : cX9_isWord.data.toList.drop 24 = dktX9_isWord_1 := dk_seg dksX9_isWord_0 24 rfl rfl
theorem dksX9_isWord_2 : cX9_isWord.data.toList.drop 48 = dktX9_isWord_2 := dk_seg dksX9_isWord_1 24 rfl rfl
theorem dksX9_isWord_3 : cX9_isWord.data.toList.drop 72 = dktX9_isWord_3 := dk_seg dksX9_isWord_2 24 rfl rfl
theorem dX9_isWord_0 : decode cX9_isWord 0 = .ok (.aload_n 0, 1) := dk_42 (dk_at dksX9_isWord_0 0 rfl rfl)
theorem dX9_isWord_1 : decode cX9_isWord 1 = .ok (.getfield 227, 3) := dk_180 0 227 (dk_at dksX9_isWord_0 1 rfl rfl)
theorem dX9_isWord_4 : decode cX9_isWord 4 = .ok (.iconst 3, 1) := dk_6 (dk_at dksX9_isWord_0 4 rfl rfl)
theorem dX9_isWord_5 : decode cX9_isWord 5 = .ok (.if_icmp .ne 23, 3) := dk_160 0 23 (dk_at dksX9_isWord_0 5 rfl rfl)
theorem dX9_isWord_8 : decode cX9_isWord 8 = .ok (.aload_n 0, 1) := dk_42 (dk_at dksX9_isWord_0 8 rfl rfl)
theorem dX9_isWord_9 : decode cX9_isWord 9 = .ok (.getfield 221, 3) := dk_180 0 221 (dk_at dksX9_isWord_0 9 rfl rfl)
theorem dX9_isWord_12 : decode cX9_isWord 12 = .ok (.aload_n 0, 1) := dk_42 (dk_at dksX9_isWord_0 12 rfl rfl)
theorem dX9_isWord_13 : decode cX9_isWord 13 = .ok (.getfield 224, 3) := dk_180 0 224 (dk_at dksX9_isWord_0 13 rfl rfl)
theorem dX9_isWord_16 : decode cX9_isWord 16 = .ok (.isub, 1) := dk_100 (dk_at dksX9_isWord_0 16 rfl rfl)
theorem dX9_isWord_17 : decode cX9_isWord 17 = .ok (.aload_n 1, 1) := dk_43 (dk_at dksX9_isWord_0 17 rfl rfl)
theorem dX9_isWord_18 : decode cX9_isWord 18 = .ok (.invokevirtual 239, 3) := dk_182 0 239 (dk_at dksX9_isWord_0 18 rfl rfl)
theorem dX9_isWord_21 : decode cX9_isWord 21 = .ok (.if_icmp .ne 7, 3) := dk_160 0 7 (dk_at dksX9_isWord_0 21 rfl rfl)
theorem dX9_isWord_24 : decode cX9_isWord 24 = .ok (.iconst 1, 1) := dk_4 (dk_at dksX9_isWord_1 0 rfl rfl)
theorem dX9_isWord_25 : decode cX9_isWord 25 = .ok (.goto 4, 3) := dk_167 0 4 (dk_at dksX9_isWord_1 1 rfl rfl)
theorem dX9_isWord_28 : decode cX9_isWord 28 = .ok (.iconst 0, 1) := dk_3 (dk_at dksX9_isWord_1 4 rfl rfl)
theorem dX9_isWord_29 : decode cX9_isWord 29 = .ok (.istore_n 2, 1) := dk_61 (dk_at dksX9_isWord_1 5 rfl rfl)
theorem dX9_isWord_30 : decode cX9_isWord 30 = .ok (.iconst 0, 1) := dk_3 (dk_at dksX9_isWord_1 6 rfl rfl)
theorem dX9_isWord_31 : decode cX9_isWord 31 = .ok (.istore_n 3, 1) := dk_62 (dk_at dksX9_isWord_1 7 rfl rfl)
theorem dX9_isWord_32 : decode cX9_isWord 32 = .ok (.iload_n 2, 1) := dk_28 (dk_at dksX9_isWord_1 8 rfl rfl)
theorem dX9_isWord_33 : decode cX9_isWord 33 = .ok (.ifCond .eq 42, 3) := dk_153 0 42 (dk_at dksX9_isWord_1 9 rfl rfl)
theorem dX9_isWord_36 : decode cX9_isWord 36 = .ok (.iload_n 3, 1) := dk_29 (dk_at dksX9_isWord_1 12 rfl rfl)
theorem dX9_isWord_37 : decode cX9_isWord 37 = .ok (.aload_n 1, 1) := dk_43 (dk_at dksX9_isWord_1 13 rfl rfl)
theorem dX9_isWord_38 : decode cX9_isWord 38 = .ok (.invokevirtual 239, 3) := dk_182 0 239 (dk_at dksX9_isWord_1 14 rfl rfl)
theorem dX9_isWord_41 : decode cX9_isWord 41 = .ok (.if_icmp .ge 34, 3) := dk_162 0 34 (dk_at dksX9_isWord_1 17 rfl rfl)
theorem dX9_isWord_44 : decode cX9_isWord 44 = .ok (.aload_n 0, 1) := dk_42 (dk_at dksX9_isWord_1 20 rfl rfl)
theorem dX9_isWord_45 : decode cX9_isWord 45 = .ok (.getfield 43, 3) := dk_180 0 43 (dk_at dksX9_isWord_1 21 rfl rfl)
theorem dX9_isWord_48 : decode cX9_isWord 48 = .ok (.aload_n 0, 1) := dk_42 (dk_at dksX9_isWord_2 0 rfl rfl)
theorem dX9_isWord_49 : decode cX9_isWord 49 = .ok (.getfield 224, 3) := dk_180 0 224 (dk_at dksX9_isWord_2 1 rfl rfl)
theorem dX9_isWord_52 : decode cX9_isWord 52 = .ok (.iload_n 3, 1) := dk_29 (dk_at dksX9_isWord_2 4 rfl rfl)
theorem dX9_isWord_53 : decode cX9_isWord 53 = .ok (.iadd, 1) := dk_96 (dk_at dksX9_isWord_2 5 rfl rfl)
theorem dX9_isWord_54 : decode cX9_isWord 54 = .ok (.iaload, 1) := dk_46 (dk_at dksX9_isWord_2 6 rfl rfl)
theorem dX9_isWord_55 : decode cX9_isWord 55 = .ok (.aload_n 1, 1) := dk_43 (dk_at dksX9_isWord_2 7 rfl rfl)
theorem dX9_isWord_56 : decode cX9_isWord 56 = .ok (.iload_n 3, 1) := dk_29 (dk_at dksX9_isWord_2 8 rfl rfl)
theorem dX9_isWord_57 : decode cX9_isWord 57 = .ok (.invokevirtual 244, 3) := dk_182 0 244 (dk_at dksX9_isWord_2 9 rfl rfl)
theorem dX9_isWord_60 : decode cX9_isWord 60 = .ok (.if_icmp .ne 7, 3) := dk_160 0 7 (dk_at dksX9_isWord_2 12 rfl rfl)
theorem dX9_isWord_63 : decode cX9_isWord 63 = .ok (.iconst 1, 1) := dk_4 (dk_at dksX9_isWord_2 15 rfl rfl)
theorem dX9_isWord_64 : decode cX9_isWord 64 = .ok (.goto 4, 3) := dk_167 0 4 (dk_at dksX9_isWord_2 16 rfl rfl)
theorem dX9_isWord_67 : decode cX9_isWord 67 = .ok (.iconst 0, 1) := dk_3 (dk_at dksX9_isWord_2 19 rfl rfl)
theorem dX9_isWord_68 : decode cX9_isWord 68 = .ok (.istore_n 2, 1) := dk_61 (dk_at dksX9_isWord_2 20 rfl rfl)
theorem dX9_isWord_69 : decode cX9_isWord 69 = .ok (.iinc 3 1, 3) := dk_132 3 1 (dk_at dksX9_isWord_2 21 rfl rfl)
theorem dX9_isWord_72 : decode cX9_isWord 72 = .ok (.goto (-40), 3) := dk_167 255 216 (dk_at dksX9_isWord_3 0 rfl rfl)
theorem dX9_isWord_75 : decode cX9_isWord 75 = .ok (.iload_n 2, 1) := dk_28 (dk_at dksX9_isWord_3 3 rfl rfl)
theorem dX9_isWord_76 : decode cX9_isWord 76 = .ok (.ireturn, 1) := dk_172 (dk_at dksX9_isWord_3 4 rfl rfl)
abbrev cX9_pass_2 : ByteArray := prog_15_method_63_code
def yX9_pass_2 : MethodName := ⟨RX9, "pass", "(Z)V"⟩
def dkwX9_pass_2_0 : List UInt8 := [27, 154, 0, 11, 42, 4, 182, 0, 251, 167, 0, 14, 42, 180, 0, 248, 154, 0, 7, 42, 182, 0, 254, 177]
abbrev dktX9_pass_2_0 : List UInt8 := dkwX9_pass_2_0 ++ []
theorem dksX9_pass_2_0 : cX9_pass_2.data.toList.drop 0 = dktX9_pass_2_0 := by decide +kernel
theorem dX9_pass_2_0 : decode cX9_pass_2 0 = .ok (.iload_n 1, 1) := dk_27 (dk_at dksX9_pass_2_0 0 rfl rfl)
theorem dX9_pass_2_1 : decode cX9_pass_2 1 = .ok (.ifCond .ne 11, 3) := dk_154 0 11 (dk_at dksX9_pass_2_0 1 rfl rfl)
theorem dX9_pass_2_4 : decode cX9_pass_2 4 = .ok (.aload_n 0, 1) := dk_42 (dk_at dksX9_pass_2_0 4 rfl rfl)
theorem dX9_pass_2_5 : decode cX9_pass_2 5 = .ok (.iconst 1, 1) := dk_4 (dk_at dksX9_pass_2_0 5 rfl rfl)
theorem dX9_pass_2_6 : decode cX9_pass_2 6 = .ok (.invokevirtual 251, 3) := dk_182 0 251 (dk_at dksX9_pass_2_0 6 rfl rfl)
theorem dX9_pass_2_9 : decode cX9_pass_2 9 = .ok (.goto 14, 3) := dk_167 0 14 (dk_at dksX9_pass_2_0 9 rfl rfl)
theorem dX9_pass_2_12 : decode cX9_pass_2 12 = .ok (.aload_n 0, 1) := dk_42 (dk_at dksX9_pass_2_0 12 rfl rfl)
theorem dX9_pass_2_13 : decode cX9_pass_2 13 = .ok (.getfield 248, 3) := dk_180 0 248 (dk_at dksX9_pass_2_0 13 rfl rfl)
theorem dX9_pass_2_16 : decode cX9_pass_2 16 = .ok (.ifCond .ne 7, 3) := dk_154 0 7 (dk_at dksX9_pass_2_0 16 rfl rfl)
theorem dX9_pass_2_19 : decode cX9_pass_2 19 = .ok (.aload_n 0, 1) := dk_42 (dk_at dksX9_pass_2_0 19 rfl rfl)
theorem dX9_pass_2_20 : decode cX9_pass_2 20 = .ok (.invokevirtual 254, 3) := dk_182 0 254 (dk_at dksX9_pass_2_0 20 rfl rfl)
theorem dX9_pass_2_23 : decode cX9_pass_2 23 = .ok (.return_, 1) := dk_177 (dk_at dksX9_pass_2_0 23 rfl rfl)
abbrev cX9_wrong : ByteArray := prog_15_method_62_code
def yX9_wrong : MethodName := ⟨RX9, "wrong", "(I)V"⟩
def dkwX9_wrong_0 : List UInt8 := [42, 180, 0, 248, 154, 0, 16, 42, 16, 8, 42, 180, 0, 224, 104, 27, 96, 181, 0, 248, 177]
abbrev dktX9_wrong_0 : List UInt8 := dkwX9_wrong_0 ++ []
theorem dksX9_wrong_0 : cX9_wrong.data.toList.drop 0 = dktX9_wrong_0 := by decide +kernel
theorem dX9_wrong_0 : decode cX9_wrong 0 = .ok (.aload_n 0, 1) := dk_42 (dk_at dksX9_wrong_0 0 rfl rfl)
theorem dX9_wrong_1 : decode cX9_wrong 1 = .ok (.getfield 248, 3) := dk_180 0 248 (dk_at dksX9_wrong_0 1 rfl rfl)
theorem dX9_wrong_4 : decode cX9_wrong 4 = .ok (.ifCond .ne 16, 3) := dk_154 0 16 (dk_at dksX9_wrong_0 4 rfl rfl)
theorem dX9_wrong_7 : decode cX9_wrong 7 = .ok (.aload_n 0, 1) := dk_42 (dk_at dksX9_wrong_0 7 rfl rfl)
theorem dX9_wrong_8 : decode cX9_wrong 8 = .ok (.bipush 8, 2) := dk_16 8 (dk_at dksX9_wrong_0 8 rfl rfl)
theorem dX9_wrong_10 : decode cX9_wrong 10 = .ok (.aload_n 0, 1) := dk_42 (dk_at dksX9_wrong_0 10 rfl rfl)
theorem dX9_wrong_11 : decode cX9_wrong 11 = .ok (.getfield 224, 3) := dk_180 0 224 (dk_at dksX9_wrong_0 11 rfl rfl)
theorem dX9_wrong_14 : decode cX9_wrong 14 = .ok (.imul, 1) := dk_104 (dk_at dksX9_wrong_0 14 rfl rfl)
theorem dX9_wrong_15 : decode cX9_wrong 15 = .ok (.iload_n 1, 1) := dk_27 (dk_at dksX9_wrong_0 15 rfl rfl)
theorem dX9_wrong_16 : decode cX9_wrong 16 = .ok (.iadd, 1) := dk_96 (dk_at dksX9_wrong_0 16 rfl rfl)
theorem dX9_wrong_17 : decode cX9_wrong 17 = .ok (.putfield 248, 3) := dk_181 0 248 (dk_at dksX9_wrong_0 17 rfl rfl)
theorem dX9_wrong_20 : decode cX9_wrong 20 = .ok (.return_, 1) := dk_177 (dk_at dksX9_wrong_0 20 rfl rfl)
abbrev cX9_number : ByteArray := prog_15_method_65_code
def yX9_number : MethodName := ⟨RX9, "number", "(II)I"⟩
def dkwX9_number_1 : List UInt8 := [180, 0, 248, 154, 0, 7, 29, 167, 0, 4, 3, 172]
abbrev dktX9_number_1 : List UInt8 := dkwX9_number_1 ++ []
def dkwX9_number_0 : List UInt8 := [42, 27, 28, 182, 1, 1, 42, 180, 0, 236, 62, 42, 180, 0, 248, 154, 0, 7, 42, 182, 0, 254, 42]
abbrev dktX9_number_0 : List UInt8 := dkwX9_number_0 ++ dktX9_number_1
theorem dksX9_number_0 : cX9_number.data.toList.drop 0 = dktX9_number_0 := by decide +kernel
theorem dksX9_number_1 : cX9_number.data.toList.drop 23 = dktX9_number_1 := dk_seg dksX9_number_0 23 rfl rfl
theorem dX9_number_0 : decode cX9_number 0 = .ok (.aload_n 0, 1) := dk_42 (dk_at dksX9_number_0 0 rfl rfl)
theorem dX9_number_1 : decode cX9_number 1 = .ok (.iload_n 1, 1) := dk_27 (dk_at dksX9_number_0 1 rfl rfl)
theorem dX9_number_2 : decode cX9_number 2 = .ok (.iload_n 2, 1) := dk_28 (dk_at dksX9_number_0 2 rfl rfl)
theorem dX9_number_3 : decode cX9_number 3 = .ok (.invokevirtual 257, 3) := dk_182 1 1 (dk_at dksX9_number_0 3 rfl rfl)
theorem dX9_number_6 : decode cX9_number 6 = .ok (.aload_n 0, 1) := dk_42 (dk_at dksX9_number_0 6 rfl rfl)
theorem dX9_number_7 : decode cX9_number 7 = .ok (.getfield 236, 3) := dk_180 0 236 (dk_at dksX9_number_0 7 rfl rfl)
theorem dX9_number_10 : decode cX9_number 10 = .ok (.istore_n 3, 1) := dk_62 (dk_at dksX9_number_0 10 rfl rfl)
theorem dX9_number_11 : decode cX9_number 11 = .ok (.aload_n 0, 1) := dk_42 (dk_at dksX9_number_0 11 rfl rfl)
theorem dX9_number_12 : decode cX9_number 12 = .ok (.getfield 248, 3) := dk_180 0 248 (dk_at dksX9_number_0 12 rfl rfl)
theorem dX9_number_15 : decode cX9_number 15 = .ok (.ifCond .ne 7, 3) := dk_154 0 7 (dk_at dksX9_number_0 15 rfl rfl)
theorem dX9_number_18 : decode cX9_number 18 = .ok (.aload_n 0, 1) := dk_42 (dk_at dksX9_number_0 18 rfl rfl)
theorem dX9_number_19 : decode cX9_number 19 = .ok (.invokevirtual 254, 3) := dk_182 0 254 (dk_at dksX9_number_0 19 rfl rfl)
theorem dX9_number_22 : decode cX9_number 22 = .ok (.aload_n 0, 1) := dk_42 (dk_at dksX9_number_0 22 rfl rfl)
theorem dX9_number_23 : decode cX9_number 23 = .ok (.getfield 248, 3) := dk_180 0 248 (dk_at dksX9_number_1 0 rfl rfl)
theorem dX9_number_26 : decode cX9_number 26 = .ok (.ifCond .ne 7, 3) := dk_154 0 7 (dk_at dksX9_number_1 3 rfl rfl)
theorem dX9_number_29 : decode cX9_number 29 = .ok (.iload_n 3, 1) := dk_29 (dk_at dksX9_number_1 6 rfl rfl)
theorem dX9_number_30 : decode cX9_number 30 = .ok (.goto 4, 3) := dk_167 0 4 (dk_at dksX9_number_1 7 rfl rfl)
theorem dX9_number_33 : decode cX9_number 33 = .ok (.iconst 0, 1) := dk_3 (dk_at dksX9_number_1 10 rfl rfl)
theorem dX9_number_34 : decode cX9_number 34 = .ok (.ireturn, 1) := dk_172 (dk_at dksX9_number_1 11 rfl rfl)
abbrev cX9_look : ByteArray := prog_15_method_64_code
def yX9_look : MethodName := ⟨RX9, "look", "(II)V"⟩
def dkwX9_look_2 : List UInt8 := [182, 0, 251, 177]
abbrev dktX9_look_2 : List UInt8 := dkwX9_look_2 ++ []
def dkwX9_look_1 : List UInt8 := [180, 0, 248, 154, 0, 24, 42, 180, 0, 236, 27, 161, 0, 11, 42, 180, 0, 236, 28, 164, 0, 8, 42, 5]
abbrev dktX9_look_1 : List UInt8 := dkwX9_look_1 ++ dktX9_look_2
def dkwX9_look_0 : List UInt8 := [42, 180, 0, 248, 154, 0, 19, 42, 180, 0, 227, 5, 159, 0, 11, 42, 4, 182, 0, 251, 167, 0, 31, 42]
abbrev dktX9_look_0 : List UInt8 := dkwX9_look_0 ++ dktX9_look_1
theorem dksX9_look_0 : cX9_look.data.toList.drop 0 = dktX9_look_0 := by decide +kernel
theorem dksX9_look_1 : cX9_look.data.toList.drop 24 = dktX9_look_1 := dk_seg dksX9_look_0 24 rfl rfl
theorem dksX9_look_2 : cX9_look.data.toList.drop 48 = dktX9_look_2 := dk_seg dksX9_look_1 24 rfl rfl
theorem dX9_look_0 : decode cX9_look 0 = .ok (.aload_n 0, 1) := dk_42 (dk_at dksX9_look_0 0 rfl rfl)
theorem dX9_look_1 : decode cX9_look 1 = .ok (.getfield 248, 3) := dk_180 0 248 (dk_at dksX9_look_0 1 rfl rfl)
theorem dX9_look_4 : decode cX9_look 4 = .ok (.ifCond .ne 19, 3) := dk_154 0 19 (dk_at dksX9_look_0 4 rfl rfl)
theorem dX9_look_7 : decode cX9_look 7 = .ok (.aload_n 0, 1) := dk_42 (dk_at dksX9_look_0 7 rfl rfl)
theorem dX9_look_8 : decode cX9_look 8 = .ok (.getfield 227, 3) := dk_180 0 227 (dk_at dksX9_look_0 8 rfl rfl)
theorem dX9_look_11 : decode cX9_look 11 = .ok (.iconst 2, 1) := dk_5 (dk_at dksX9_look_0 11 rfl rfl)
theorem dX9_look_12 : decode cX9_look 12 = .ok (.if_icmp .eq 11, 3) := dk_159 0 11 (dk_at dksX9_look_0 12 rfl rfl)
theorem dX9_look_15 : decode cX9_look 15 = .ok (.aload_n 0, 1) := dk_42 (dk_at dksX9_look_0 15 rfl rfl)
theorem dX9_look_16 : decode cX9_look 16 = .ok (.iconst 1, 1) := dk_4 (dk_at dksX9_look_0 16 rfl rfl)
theorem dX9_look_17 : decode cX9_look 17 = .ok (.invokevirtual 251, 3) := dk_182 0 251 (dk_at dksX9_look_0 17 rfl rfl)
theorem dX9_look_20 : decode cX9_look 20 = .ok (.goto 31, 3) := dk_167 0 31 (dk_at dksX9_look_0 20 rfl rfl)
theorem dX9_look_23 : decode cX9_look 23 = .ok (.aload_n 0, 1) := dk_42 (dk_at dksX9_look_0 23 rfl rfl)
theorem dX9_look_24 : decode cX9_look 24 = .ok (.getfield 248, 3) := dk_180 0 248 (dk_at dksX9_look_1 0 rfl rfl)
theorem dX9_look_27 : decode cX9_look 27 = .ok (.ifCond .ne 24, 3) := dk_154 0 24 (dk_at dksX9_look_1 3 rfl rfl)
theorem dX9_look_30 : decode cX9_look 30 = .ok (.aload_n 0, 1) := dk_42 (dk_at dksX9_look_1 6 rfl rfl)
theorem dX9_look_31 : decode cX9_look 31 = .ok (.getfield 236, 3) := dk_180 0 236 (dk_at dksX9_look_1 7 rfl rfl)
theorem dX9_look_34 : decode cX9_look 34 = .ok (.iload_n 1, 1) := dk_27 (dk_at dksX9_look_1 10 rfl rfl)
theorem dX9_look_35 : decode cX9_look 35 = .ok (.if_icmp .lt 11, 3) := dk_161 0 11 (dk_at dksX9_look_1 11 rfl rfl)
theorem dX9_look_38 : decode cX9_look 38 = .ok (.aload_n 0, 1) := dk_42 (dk_at dksX9_look_1 14 rfl rfl)
theorem dX9_look_39 : decode cX9_look 39 = .ok (.getfield 236, 3) := dk_180 0 236 (dk_at dksX9_look_1 15 rfl rfl)
theorem dX9_look_42 : decode cX9_look 42 = .ok (.iload_n 2, 1) := dk_28 (dk_at dksX9_look_1 18 rfl rfl)
theorem dX9_look_43 : decode cX9_look 43 = .ok (.if_icmp .le 8, 3) := dk_164 0 8 (dk_at dksX9_look_1 19 rfl rfl)
theorem dX9_look_46 : decode cX9_look 46 = .ok (.aload_n 0, 1) := dk_42 (dk_at dksX9_look_1 22 rfl rfl)
theorem dX9_look_47 : decode cX9_look 47 = .ok (.iconst 2, 1) := dk_5 (dk_at dksX9_look_1 23 rfl rfl)
theorem dX9_look_48 : decode cX9_look 48 = .ok (.invokevirtual 251, 3) := dk_182 0 251 (dk_at dksX9_look_2 0 rfl rfl)
theorem dX9_look_51 : decode cX9_look 51 = .ok (.return_, 1) := dk_177 (dk_at dksX9_look_2 3 rfl rfl)
abbrev cX9_semicolon : ByteArray := prog_15_method_66_code
def yX9_semicolon : MethodName := ⟨RX9, "semicolon", "()V"⟩
def dkwX9_semicolon_0 : List UInt8 := [42, 180, 0, 248, 154, 0, 16, 42, 180, 0, 227, 4, 159, 0, 8, 42, 4, 182, 0, 251, 177]
abbrev dktX9_semicolon_0 : List UInt8 := dkwX9_semicolon_0 ++ []
theorem dksX9_semicolon_0 : cX9_semicolon.data.toList.drop 0 = dktX9_semicolon_0 := by decide +kernel
theorem dX9_semicolon_0 : decode cX9_semicolon 0 = .ok (.aload_n 0, 1) := dk_42 (dk_at dksX9_semicolon_0 0 rfl rfl)
theorem dX9_semicolon_1 : decode cX9_semicolon 1 = .ok (.getfield 248, 3) := dk_180 0 248 (dk_at dksX9_semicolon_0 1 rfl rfl)
theorem dX9_semicolon_4 : decode cX9_semicolon 4 = .ok (.ifCond .ne 16, 3) := dk_154 0 16 (dk_at dksX9_semicolon_0 4 rfl rfl)
theorem dX9_semicolon_7 : decode cX9_semicolon 7 = .ok (.aload_n 0, 1) := dk_42 (dk_at dksX9_semicolon_0 7 rfl rfl)
theorem dX9_semicolon_8 : decode cX9_semicolon 8 = .ok (.getfield 227, 3) := dk_180 0 227 (dk_at dksX9_semicolon_0 8 rfl rfl)
theorem dX9_semicolon_11 : decode cX9_semicolon 11 = .ok (.iconst 1, 1) := dk_4 (dk_at dksX9_semicolon_0 11 rfl rfl)
theorem dX9_semicolon_12 : decode cX9_semicolon 12 = .ok (.if_icmp .eq 8, 3) := dk_159 0 8 (dk_at dksX9_semicolon_0 12 rfl rfl)
theorem dX9_semicolon_15 : decode cX9_semicolon 15 = .ok (.aload_n 0, 1) := dk_42 (dk_at dksX9_semicolon_0 15 rfl rfl)
theorem dX9_semicolon_16 : decode cX9_semicolon 16 = .ok (.iconst 1, 1) := dk_4 (dk_at dksX9_semicolon_0 16 rfl rfl)
theorem dX9_semicolon_17 : decode cX9_semicolon 17 = .ok (.invokevirtual 251, 3) := dk_182 0 251 (dk_at dksX9_semicolon_0 17 rfl rfl)
theorem dX9_semicolon_20 : decode cX9_semicolon 20 = .ok (.return_, 1) := dk_177 (dk_at dksX9_semicolon_0 20 rfl rfl)
abbrev cX9_statement : ByteArray := prog_15_method_68_code
def yX9_statement : MethodName := ⟨RX9, "statement", "()V"⟩
def dkwX9_statement_10 : List UInt8 := [153, 0, 7, 6, 167, 0, 4, 5, 28, 79, 167, 0, 8, 42, 4, 182, 0, 251, 177]
abbrev dktX9_statement_10 : List UInt8 := dkwX9_statement_10 ++ []
def dkwX9_statement_9 : List UInt8 := [3, 27, 153, 0, 8, 16, 99, 167, 0, 4, 6, 182, 1, 14, 61, 42, 182, 1, 18, 42, 180, 0, 9, 27]
abbrev dktX9_statement_9 : List UInt8 := dkwX9_statement_9 ++ dktX9_statement_10
def dkwX9_statement_8 : List UInt8 := [153, 0, 61, 42, 19, 1, 58, 182, 1, 6, 60, 42, 182, 0, 254, 42, 27, 153, 0, 7, 4, 167, 0, 4]
abbrev dktX9_statement_8 : List UInt8 := dkwX9_statement_8 ++ dktX9_statement_9
def dkwX9_statement_7 : List UInt8 := [42, 182, 1, 53, 167, 0, 86, 42, 19, 1, 56, 182, 1, 6, 154, 0, 13, 42, 19, 1, 58, 182, 1, 6]
abbrev dktX9_statement_7 : List UInt8 := dkwX9_statement_7 ++ dktX9_statement_8
def dkwX9_statement_6 : List UInt8 := [182, 1, 18, 42, 27, 8, 28, 3, 182, 1, 34, 167, 0, 103, 42, 19, 1, 51, 182, 1, 6, 153, 0, 10]
abbrev dktX9_statement_6 : List UInt8 := dkwX9_statement_6 ++ dktX9_statement_7
def dkwX9_statement_5 : List UInt8 := [182, 1, 6, 153, 0, 35, 42, 182, 0, 254, 42, 2, 182, 1, 31, 60, 42, 3, 6, 182, 1, 14, 61, 42]
abbrev dktX9_statement_5 : List UInt8 := dkwX9_statement_5 ++ dktX9_statement_6
def dkwX9_statement_4 : List UInt8 := [167, 0, 162, 42, 19, 1, 44, 182, 1, 6, 153, 0, 10, 42, 182, 1, 46, 167, 0, 145, 42, 19, 1, 49]
abbrev dktX9_statement_4 : List UInt8 := dkwX9_statement_4 ++ dktX9_statement_5
def dkwX9_statement_3 : List UInt8 := [42, 19, 1, 37, 182, 1, 6, 154, 0, 13, 42, 19, 1, 39, 182, 1, 6, 153, 0, 10, 42, 182, 1, 41]
abbrev dktX9_statement_3 : List UInt8 := dkwX9_statement_3 ++ dktX9_statement_4
def dkwX9_statement_2 : List UInt8 := [182, 0, 254, 42, 2, 182, 1, 31, 60, 42, 182, 1, 18, 42, 27, 4, 2, 3, 182, 1, 34, 167, 0, 189]
abbrev dktX9_statement_2 : List UInt8 := dkwX9_statement_2 ++ dktX9_statement_3
def dkwX9_statement_1 : List UInt8 := [158, 0, 11, 42, 4, 182, 0, 251, 167, 0, 224, 42, 19, 1, 29, 182, 1, 6, 153, 0, 28, 42]
abbrev dktX9_statement_1 : List UInt8 := dkwX9_statement_1 ++ dktX9_statement_2
def dkwX9_statement_0 : List UInt8 := [42, 19, 1, 24, 182, 1, 6, 153, 0, 10, 42, 182, 1, 26, 167, 0, 241, 42, 180, 0, 9, 7, 46]
abbrev dktX9_statement_0 : List UInt8 := dkwX9_statement_0 ++ dktX9_statement_1
theorem dksX9_statement_0 : cX9_statement.data.toList.drop 0 = dktX9_statement_0 := by decide +kernel
theorem dksX9_statement_1 : cX9_statement.data.toList.drop 23 = dktX9_statement_1 := dk_seg dksX9_statement_0 23 rfl rfl
theorem dksX9_statement_2 : cX9_statement.data.toList.drop 45 = dktX9_statement_2 := dk_seg dksX9_statement_1 22 rfl rfl
theorem dksX9_statement_3 : cX9_statement.data.toList.drop 69 = dktX9_statement_3 := dk_seg dksX9_statement_2 24 rfl rfl
theorem dksX9_statement_4 : cX9_statement.data.toList.drop 93 = dktX9_statement_4 := dk_seg dksX9_statement_3 24 rfl rfl
theorem dksX9_statement_5 : cX9_statement.data.toList.drop 117 = dktX9_statement_5 := dk_seg dksX9_statement_4 24 rfl rfl
theorem dksX9_statement_6 : cX9_statement.data.toList.drop 141 = dktX9_statement_6 := dk_seg dksX9_statement_5 24 rfl rfl
theorem dksX9_statement_7 : cX9_statement.data.toList.drop 165 = dktX9_statement_7 := dk_seg dksX9_statement_6 24 rfl rfl
theorem dksX9_statement_8 : cX9_statement.data.toList.drop 189 = dktX9_statement_8 := dk_seg dksX9_statement_7 24 rfl rfl
theorem dksX9_statement_9 : cX9_statement.data.toList.drop 213 = dktX9_statement_9 := dk_seg dksX9_statement_8 24 rfl rfl
theorem dksX9_statement_10 : cX9_statement.data.toList.drop 237 = dktX9_statement_10 := dk_seg dksX9_statement_9 24 rfl rfl
theorem dX9_statement_0 : decode cX9_statement 0 = .ok (.aload_n 0, 1) := dk_42 (dk_at dksX9_statement_0 0 rfl rfl)
theorem dX9_statement_1 : decode cX9_statement 1 = .ok (.ldc_w 280, 3) := dk_19 1 24 (dk_at dksX9_statement_0 1 rfl rfl)
theorem dX9_statement_4 : decode cX9_statement 4 = .ok (.invokevirtual 262, 3) := dk_182 1 6 (dk_at dksX9_statement_0 4 rfl rfl)
theorem dX9_statement_7 : decode cX9_statement 7 = .ok (.ifCond .eq 10, 3) := dk_153 0 10 (dk_at dksX9_statement_0 7 rfl rfl)
theorem dX9_statement_10 : decode cX9_statement 10 = .ok (.aload_n 0, 1) := dk_42 (dk_at dksX9_statement_0 10 rfl rfl)
theorem dX9_statement_11 : decode cX9_statement 11 = .ok (.invokevirtual 282, 3) := dk_182 1 26 (dk_at dksX9_statement_0 11 rfl rfl)
theorem dX9_statement_14 : decode cX9_statement 14 = .ok (.goto 241, 3) := dk_167 0 241 (dk_at dksX9_statement_0 14 rfl rfl)
theorem dX9_statement_17 : decode cX9_statement 17 = .ok (.aload_n 0, 1) := dk_42 (dk_at dksX9_statement_0 17 rfl rfl)
theorem dX9_statement_18 : decode cX9_statement 18 = .ok (.getfield 9, 3) := dk_180 0 9 (dk_at dksX9_statement_0 18 rfl rfl)
theorem dX9_statement_21 : decode cX9_statement 21 = .ok (.iconst 4, 1) := dk_7 (dk_at dksX9_statement_0 21 rfl rfl)
theorem dX9_statement_22 : decode cX9_statement 22 = .ok (.iaload, 1) := dk_46 (dk_at dksX9_statement_0 22 rfl rfl)
theorem dX9_statement_23 : decode cX9_statement 23 = .ok (.ifCond .le 11, 3) := dk_158 0 11 (dk_at dksX9_statement_1 0 rfl rfl)
theorem dX9_statement_26 : decode cX9_statement 26 = .ok (.aload_n 0, 1) := dk_42 (dk_at dksX9_statement_1 3 rfl rfl)
theorem dX9_statement_27 : decode cX9_statement 27 = .ok (.iconst 1, 1) := dk_4 (dk_at dksX9_statement_1 4 rfl rfl)
theorem dX9_statement_28 : decode cX9_statement 28 = .ok (.invokevirtual 251, 3) := dk_182 0 251 (dk_at dksX9_statement_1 5 rfl rfl)
theorem dX9_statement_31 : decode cX9_statement 31 = .ok (.goto 224, 3) := dk_167 0 224 (dk_at dksX9_statement_1 8 rfl rfl)
theorem dX9_statement_34 : decode cX9_statement 34 = .ok (.aload_n 0, 1) := dk_42 (dk_at dksX9_statement_1 11 rfl rfl)
theorem dX9_statement_35 : decode cX9_statement 35 = .ok (.ldc_w 285, 3) := dk_19 1 29 (dk_at dksX9_statement_1 12 rfl rfl)
theorem dX9_statement_38 : decode cX9_statement 38 = .ok (.invokevirtual 262, 3) := dk_182 1 6 (dk_at dksX9_statement_1 15 rfl rfl)
theorem dX9_statement_41 : decode cX9_statement 41 = .ok (.ifCond .eq 28, 3) := dk_153 0 28 (dk_at dksX9_statement_1 18 rfl rfl)
theorem dX9_statement_44 : decode cX9_statement 44 = .ok (.aload_n 0, 1) := dk_42 (dk_at dksX9_statement_1 21 rfl rfl)
theorem dX9_statement_45 : decode cX9_statement 45 = .ok (.invokevirtual 254, 3) := dk_182 0 254 (dk_at dksX9_statement_2 0 rfl rfl)
theorem dX9_statement_48 : decode cX9_statement 48 = .ok (.aload_n 0, 1) := dk_42 (dk_at dksX9_statement_2 3 rfl rfl)
theorem dX9_statement_49 : decode cX9_statement 49 = .ok (.iconst (-1), 1) := dk_2 (dk_at dksX9_statement_2 4 rfl rfl)
theorem dX9_statement_50 : decode cX9_statement 50 = .ok (.invokevirtual 287, 3) := dk_182 1 31 (dk_at dksX9_statement_2 5 rfl rfl)
theorem dX9_statement_53 : decode cX9_statement 53 = .ok (.istore_n 1, 1) := dk_60 (dk_at dksX9_statement_2 8 rfl rfl)
theorem dX9_statement_54 : decode cX9_statement 54 = .ok (.aload_n 0, 1) := dk_42 (dk_at dksX9_statement_2 9 rfl rfl)
theorem dX9_statement_55 : decode cX9_statement 55 = .ok (.invokevirtual 274, 3) := dk_182 1 18 (dk_at dksX9_statement_2 10 rfl rfl)
theorem dX9_statement_58 : decode cX9_statement 58 = .ok (.aload_n 0, 1) := dk_42 (dk_at dksX9_statement_2 13 rfl rfl)
theorem dX9_statement_59 : decode cX9_statement 59 = .ok (.iload_n 1, 1) := dk_27 (dk_at dksX9_statement_2 14 rfl rfl)
theorem dX9_statement_60 : decode cX9_statement 60 = .ok (.iconst 1, 1) := dk_4 (dk_at dksX9_statement_2 15 rfl rfl)
theorem dX9_statement_61 : decode cX9_statement 61 = .ok (.iconst (-1), 1) := dk_2 (dk_at dksX9_statement_2 16 rfl rfl)
theorem dX9_statement_62 : decode cX9_statement 62 = .ok (.iconst 0, 1) := dk_3 (dk_at dksX9_statement_2 17 rfl rfl)
theorem dX9_statement_63 : decode cX9_statement 63 = .ok (.invokevirtual 290, 3) := dk_182 1 34 (dk_at dksX9_statement_2 18 rfl rfl)
theorem dX9_statement_66 : decode cX9_statement 66 = .ok (.goto 189, 3) := dk_167 0 189 (dk_at dksX9_statement_2 21 rfl rfl)
theorem dX9_statement_69 : decode cX9_statement 69 = .ok (.aload_n 0, 1) := dk_42 (dk_at dksX9_statement_3 0 rfl rfl)
theorem dX9_statement_70 : decode cX9_statement 70 = .ok (.ldc_w 293, 3) := dk_19 1 37 (dk_at dksX9_statement_3 1 rfl rfl)
theorem dX9_statement_73 : decode cX9_statement 73 = .ok (.invokevirtual 262, 3) := dk_182 1 6 (dk_at dksX9_statement_3 4 rfl rfl)
theorem dX9_statement_76 : decode cX9_statement 76 = .ok (.ifCond .ne 13, 3) := dk_154 0 13 (dk_at dksX9_statement_3 7 rfl rfl)
theorem dX9_statement_79 : decode cX9_statement 79 = .ok (.aload_n 0, 1) := dk_42 (dk_at dksX9_statement_3 10 rfl rfl)
theorem dX9_statement_80 : decode cX9_statement 80 = .ok (.ldc_w 295, 3) := dk_19 1 39 (dk_at dksX9_statement_3 11 rfl rfl)
theorem dX9_statement_83 : decode cX9_statement 83 = .ok (.invokevirtual 262, 3) := dk_182 1 6 (dk_at dksX9_statement_3 14 rfl rfl)
theorem dX9_statement_86 : decode cX9_statement 86 = .ok (.ifCond .eq 10, 3) := dk_153 0 10 (dk_at dksX9_statement_3 17 rfl rfl)
theorem dX9_statement_89 : decode cX9_statement 89 = .ok (.aload_n 0, 1) := dk_42 (dk_at dksX9_statement_3 20 rfl rfl)
theorem dX9_statement_90 : decode cX9_statement 90 = .ok (.invokevirtual 297, 3) := dk_182 1 41 (dk_at dksX9_statement_3 21 rfl rfl)
theorem dX9_statement_93 : decode cX9_statement 93 = .ok (.goto 162, 3) := dk_167 0 162 (dk_at dksX9_statement_4 0 rfl rfl)
theorem dX9_statement_96 : decode cX9_statement 96 = .ok (.aload_n 0, 1) := dk_42 (dk_at dksX9_statement_4 3 rfl rfl)
theorem dX9_statement_97 : decode cX9_statement 97 = .ok (.ldc_w 300, 3) := dk_19 1 44 (dk_at dksX9_statement_4 4 rfl rfl)
theorem dX9_statement_100 : decode cX9_statement 100 = .ok (.invokevirtual 262, 3) := dk_182 1 6 (dk_at dksX9_statement_4 7 rfl rfl)
theorem dX9_statement_103 : decode cX9_statement 103 = .ok (.ifCond .eq 10, 3) := dk_153 0 10 (dk_at dksX9_statement_4 10 rfl rfl)
theorem dX9_statement_106 : decode cX9_statement 106 = .ok (.aload_n 0, 1) := dk_42 (dk_at dksX9_statement_4 13 rfl rfl)
theorem dX9_statement_107 : decode cX9_statement 107 = .ok (.invokevirtual 302, 3) := dk_182 1 46 (dk_at dksX9_statement_4 14 rfl rfl)
theorem dX9_statement_110 : decode cX9_statement 110 = .ok (.goto 145, 3) := dk_167 0 145 (dk_at dksX9_statement_4 17 rfl rfl)
theorem dX9_statement_113 : decode cX9_statement 113 = .ok (.aload_n 0, 1) := dk_42 (dk_at dksX9_statement_4 20 rfl rfl)
theorem dX9_statement_114 : decode cX9_statement 114 = .ok (.ldc_w 305, 3) := dk_19 1 49 (dk_at dksX9_statement_4 21 rfl rfl)
theorem dX9_statement_117 : decode cX9_statement 117 = .ok (.invokevirtual 262, 3) := dk_182 1 6 (dk_at dksX9_statement_5 0 rfl rfl)
theorem dX9_statement_120 : decode cX9_statement 120 = .ok (.ifCond .eq 35, 3) := dk_153 0 35 (dk_at dksX9_statement_5 3 rfl rfl)
theorem dX9_statement_123 : decode cX9_statement 123 = .ok (.aload_n 0, 1) := dk_42 (dk_at dksX9_statement_5 6 rfl rfl)
theorem dX9_statement_124 : decode cX9_statement 124 = .ok (.invokevirtual 254, 3) := dk_182 0 254 (dk_at dksX9_statement_5 7 rfl rfl)
theorem dX9_statement_127 : decode cX9_statement 127 = .ok (.aload_n 0, 1) := dk_42 (dk_at dksX9_statement_5 10 rfl rfl)
theorem dX9_statement_128 : decode cX9_statement 128 = .ok (.iconst (-1), 1) := dk_2 (dk_at dksX9_statement_5 11 rfl rfl)
theorem dX9_statement_129 : decode cX9_statement 129 = .ok (.invokevirtual 287, 3) := dk_182 1 31 (dk_at dksX9_statement_5 12 rfl rfl)
theorem dX9_statement_132 : decode cX9_statement 132 = .ok (.istore_n 1, 1) := dk_60 (dk_at dksX9_statement_5 15 rfl rfl)
theorem dX9_statement_133 : decode cX9_statement 133 = .ok (.aload_n 0, 1) := dk_42 (dk_at dksX9_statement_5 16 rfl rfl)
theorem dX9_statement_134 : decode cX9_statement 134 = .ok (.iconst 0, 1) := dk_3 (dk_at dksX9_statement_5 17 rfl rfl)
theorem dX9_statement_135 : decode cX9_statement 135 = .ok (.iconst 3, 1) := dk_6 (dk_at dksX9_statement_5 18 rfl rfl)
theorem dX9_statement_136 : decode cX9_statement 136 = .ok (.invokevirtual 270, 3) := dk_182 1 14 (dk_at dksX9_statement_5 19 rfl rfl)
theorem dX9_statement_139 : decode cX9_statement 139 = .ok (.istore_n 2, 1) := dk_61 (dk_at dksX9_statement_5 22 rfl rfl)
theorem dX9_statement_140 : decode cX9_statement 140 = .ok (.aload_n 0, 1) := dk_42 (dk_at dksX9_statement_5 23 rfl rfl)
theorem dX9_statement_141 : decode cX9_statement 141 = .ok (.invokevirtual 274, 3) := dk_182 1 18 (dk_at dksX9_statement_6 0 rfl rfl)
theorem dX9_statement_144 : decode cX9_statement 144 = .ok (.aload_n 0, 1) := dk_42 (dk_at dksX9_statement_6 3 rfl rfl)
theorem dX9_statement_145 : decode cX9_statement 145 = .ok (.iload_n 1, 1) := dk_27 (dk_at dksX9_statement_6 4 rfl rfl)
theorem dX9_statement_146 : decode cX9_statement 146 = .ok (.iconst 5, 1) := dk_8 (dk_at dksX9_statement_6 5 rfl rfl)
theorem dX9_statement_147 : decode cX9_statement 147 = .ok (.iload_n 2, 1) := dk_28 (dk_at dksX9_statement_6 6 rfl rfl)
theorem dX9_statement_148 : decode cX9_statement 148 = .ok (.iconst 0, 1) := dk_3 (dk_at dksX9_statement_6 7 rfl rfl)
theorem dX9_statement_149 : decode cX9_statement 149 = .ok (.invokevirtual 290, 3) := dk_182 1 34 (dk_at dksX9_statement_6 8 rfl rfl)
theorem dX9_statement_152 : decode cX9_statement 152 = .ok (.goto 103, 3) := dk_167 0 103 (dk_at dksX9_statement_6 11 rfl rfl)
theorem dX9_statement_155 : decode cX9_statement 155 = .ok (.aload_n 0, 1) := dk_42 (dk_at dksX9_statement_6 14 rfl rfl)
theorem dX9_statement_156 : decode cX9_statement 156 = .ok (.ldc_w 307, 3) := dk_19 1 51 (dk_at dksX9_statement_6 15 rfl rfl)
theorem dX9_statement_159 : decode cX9_statement 159 = .ok (.invokevirtual 262, 3) := dk_182 1 6 (dk_at dksX9_statement_6 18 rfl rfl)
theorem dX9_statement_162 : decode cX9_statement 162 = .ok (.ifCond .eq 10, 3) := dk_153 0 10 (dk_at dksX9_statement_6 21 rfl rfl)
theorem dX9_statement_165 : decode cX9_statement 165 = .ok (.aload_n 0, 1) := dk_42 (dk_at dksX9_statement_7 0 rfl rfl)
theorem dX9_statement_166 : decode cX9_statement 166 = .ok (.invokevirtual 309, 3) := dk_182 1 53 (dk_at dksX9_statement_7 1 rfl rfl)
theorem dX9_statement_169 : decode cX9_statement 169 = .ok (.goto 86, 3) := dk_167 0 86 (dk_at dksX9_statement_7 4 rfl rfl)
theorem dX9_statement_172 : decode cX9_statement 172 = .ok (.aload_n 0, 1) := dk_42 (dk_at dksX9_statement_7 7 rfl rfl)
theorem dX9_statement_173 : decode cX9_statement 173 = .ok (.ldc_w 312, 3) := dk_19 1 56 (dk_at dksX9_statement_7 8 rfl rfl)
theorem dX9_statement_176 : decode cX9_statement 176 = .ok (.invokevirtual 262, 3) := dk_182 1 6 (dk_at dksX9_statement_7 11 rfl rfl)
theorem dX9_statement_179 : decode cX9_statement 179 = .ok (.ifCond .ne 13, 3) := dk_154 0 13 (dk_at dksX9_statement_7 14 rfl rfl)
theorem dX9_statement_182 : decode cX9_statement 182 = .ok (.aload_n 0, 1) := dk_42 (dk_at dksX9_statement_7 17 rfl rfl)
theorem dX9_statement_183 : decode cX9_statement 183 = .ok (.ldc_w 314, 3) := dk_19 1 58 (dk_at dksX9_statement_7 18 rfl rfl)
theorem dX9_statement_186 : decode cX9_statement 186 = .ok (.invokevirtual 262, 3) := dk_182 1 6 (dk_at dksX9_statement_7 21 rfl rfl)
theorem dX9_statement_189 : decode cX9_statement 189 = .ok (.ifCond .eq 61, 3) := dk_153 0 61 (dk_at dksX9_statement_8 0 rfl rfl)
theorem dX9_statement_192 : decode cX9_statement 192 = .ok (.aload_n 0, 1) := dk_42 (dk_at dksX9_statement_8 3 rfl rfl)
theorem dX9_statement_193 : decode cX9_statement 193 = .ok (.ldc_w 314, 3) := dk_19 1 58 (dk_at dksX9_statement_8 4 rfl rfl)
theorem dX9_statement_196 : decode cX9_statement 196 = .ok (.invokevirtual 262, 3) := dk_182 1 6 (dk_at dksX9_statement_8 7 rfl rfl)
theorem dX9_statement_199 : decode cX9_statement 199 = .ok (.istore_n 1, 1) := dk_60 (dk_at dksX9_statement_8 10 rfl rfl)
theorem dX9_statement_200 : decode cX9_statement 200 = .ok (.aload_n 0, 1) := dk_42 (dk_at dksX9_statement_8 11 rfl rfl)
theorem dX9_statement_201 : decode cX9_statement 201 = .ok (.invokevirtual 254, 3) := dk_182 0 254 (dk_at dksX9_statement_8 12 rfl rfl)
theorem dX9_statement_204 : decode cX9_statement 204 = .ok (.aload_n 0, 1) := dk_42 (dk_at dksX9_statement_8 15 rfl rfl)
theorem dX9_statement_205 : decode cX9_statement 205 = .ok (.iload_n 1, 1) := dk_27 (dk_at dksX9_statement_8 16 rfl rfl)
theorem dX9_statement_206 : decode cX9_statement 206 = .ok (.ifCond .eq 7, 3) := dk_153 0 7 (dk_at dksX9_statement_8 17 rfl rfl)
theorem dX9_statement_209 : decode cX9_statement 209 = .ok (.iconst 1, 1) := dk_4 (dk_at dksX9_statement_8 20 rfl rfl)
theorem dX9_statement_210 : decode cX9_statement 210 = .ok (.goto 4, 3) := dk_167 0 4 (dk_at dksX9_statement_8 21 rfl rfl)
theorem dX9_statement_213 : decode cX9_statement 213 = .ok (.iconst 0, 1) := dk_3 (dk_at dksX9_statement_9 0 rfl rfl)
theorem dX9_statement_214 : decode cX9_statement 214 = .ok (.iload_n 1, 1) := dk_27 (dk_at dksX9_statement_9 1 rfl rfl)
theorem dX9_statement_215 : decode cX9_statement 215 = .ok (.ifCond .eq 8, 3) := dk_153 0 8 (dk_at dksX9_statement_9 2 rfl rfl)
theorem dX9_statement_218 : decode cX9_statement 218 = .ok (.bipush 99, 2) := dk_16 99 (dk_at dksX9_statement_9 5 rfl rfl)
theorem dX9_statement_220 : decode cX9_statement 220 = .ok (.goto 4, 3) := dk_167 0 4 (dk_at dksX9_statement_9 7 rfl rfl)
theorem dX9_statement_223 : decode cX9_statement 223 = .ok (.iconst 3, 1) := dk_6 (dk_at dksX9_statement_9 10 rfl rfl)
theorem dX9_statement_224 : decode cX9_statement 224 = .ok (.invokevirtual 270, 3) := dk_182 1 14 (dk_at dksX9_statement_9 11 rfl rfl)
theorem dX9_statement_227 : decode cX9_statement 227 = .ok (.istore_n 2, 1) := dk_61 (dk_at dksX9_statement_9 14 rfl rfl)
theorem dX9_statement_228 : decode cX9_statement 228 = .ok (.aload_n 0, 1) := dk_42 (dk_at dksX9_statement_9 15 rfl rfl)
theorem dX9_statement_229 : decode cX9_statement 229 = .ok (.invokevirtual 274, 3) := dk_182 1 18 (dk_at dksX9_statement_9 16 rfl rfl)
theorem dX9_statement_232 : decode cX9_statement 232 = .ok (.aload_n 0, 1) := dk_42 (dk_at dksX9_statement_9 19 rfl rfl)
theorem dX9_statement_233 : decode cX9_statement 233 = .ok (.getfield 9, 3) := dk_180 0 9 (dk_at dksX9_statement_9 20 rfl rfl)
theorem dX9_statement_236 : decode cX9_statement 236 = .ok (.iload_n 1, 1) := dk_27 (dk_at dksX9_statement_9 23 rfl rfl)
theorem dX9_statement_237 : decode cX9_statement 237 = .ok (.ifCond .eq 7, 3) := dk_153 0 7 (dk_at dksX9_statement_10 0 rfl rfl)
theorem dX9_statement_240 : decode cX9_statement 240 = .ok (.iconst 3, 1) := dk_6 (dk_at dksX9_statement_10 3 rfl rfl)
theorem dX9_statement_241 : decode cX9_statement 241 = .ok (.goto 4, 3) := dk_167 0 4 (dk_at dksX9_statement_10 4 rfl rfl)
theorem dX9_statement_244 : decode cX9_statement 244 = .ok (.iconst 2, 1) := dk_5 (dk_at dksX9_statement_10 7 rfl rfl)
theorem dX9_statement_245 : decode cX9_statement 245 = .ok (.iload_n 2, 1) := dk_28 (dk_at dksX9_statement_10 8 rfl rfl)
theorem dX9_statement_246 : decode cX9_statement 246 = .ok (.iastore, 1) := dk_79 (dk_at dksX9_statement_10 9 rfl rfl)
theorem dX9_statement_247 : decode cX9_statement 247 = .ok (.goto 8, 3) := dk_167 0 8 (dk_at dksX9_statement_10 10 rfl rfl)
theorem dX9_statement_250 : decode cX9_statement 250 = .ok (.aload_n 0, 1) := dk_42 (dk_at dksX9_statement_10 13 rfl rfl)
theorem dX9_statement_251 : decode cX9_statement 251 = .ok (.iconst 1, 1) := dk_4 (dk_at dksX9_statement_10 14 rfl rfl)
theorem dX9_statement_252 : decode cX9_statement 252 = .ok (.invokevirtual 251, 3) := dk_182 0 251 (dk_at dksX9_statement_10 15 rfl rfl)
theorem dX9_statement_255 : decode cX9_statement 255 = .ok (.return_, 1) := dk_177 (dk_at dksX9_statement_10 18 rfl rfl)
abbrev cX9_turnStatement : ByteArray := prog_15_method_74_code
def yX9_turnStatement : MethodName := ⟨RX9, "turnStatement", "()V"⟩
def dkwX9_turnStatement_3 : List UInt8 := [42, 182, 1, 18, 42, 180, 0, 248, 154, 0, 9, 42, 28, 182, 0, 212, 87, 177]
abbrev dktX9_turnStatement_3 : List UInt8 := dkwX9_turnStatement_3 ++ []
def dkwX9_turnStatement_2 : List UInt8 := [42, 28, 182, 0, 184, 153, 0, 8, 42, 8, 182, 0, 251, 42, 180, 0, 248, 154, 0, 7, 42, 182, 0, 254]
abbrev dktX9_turnStatement_2 : List UInt8 := dkwX9_turnStatement_2 ++ dktX9_turnStatement_3
def dkwX9_turnStatement_1 : List UInt8 := [4, 46, 4, 100, 182, 1, 1, 42, 27, 42, 180, 0, 236, 182, 0, 102, 61, 42, 180, 0, 248, 154, 0, 16]
abbrev dktX9_turnStatement_1 : List UInt8 := dkwX9_turnStatement_1 ++ dktX9_turnStatement_2
def dkwX9_turnStatement_0 : List UInt8 := [42, 182, 0, 254, 42, 3, 42, 180, 0, 9, 3, 46, 4, 100, 182, 1, 14, 60, 42, 3, 42, 180, 0, 9]
abbrev dktX9_turnStatement_0 : List UInt8 := dkwX9_turnStatement_0 ++ dktX9_turnStatement_1
theorem dksX9_turnStatement_0 : cX9_turnStatement.data.toList.drop 0 = dktX9_turnStatement_0 := by decide +kernel
theorem dksX9_turnStatement_1 : cX9_turnStatement.data.toList.drop 24 = dktX9_turnStatement_1 := dk_seg dksX9_turnStatement_0 24 rfl rfl
theorem dksX9_turnStatement_2 : cX9_turnStatement.data.toList.drop 48 = dktX9_turnStatement_2 := dk_seg dksX9_turnStatement_1 24 rfl rfl
theorem dksX9_turnStatement_3 : cX9_turnStatement.data.toList.drop 72 = dktX9_turnStatement_3 := dk_seg dksX9_turnStatement_2 24 rfl rfl
theorem dX9_turnStatement_0 : decode cX9_turnStatement 0 = .ok (.aload_n 0, 1) := dk_42 (dk_at dksX9_turnStatement_0 0 rfl rfl)
theorem dX9_turnStatement_1 : decode cX9_turnStatement 1 = .ok (.invokevirtual 254, 3) := dk_182 0 254 (dk_at dksX9_turnStatement_0 1 rfl rfl)
theorem dX9_turnStatement_4 : decode cX9_turnStatement 4 = .ok (.aload_n 0, 1) := dk_42 (dk_at dksX9_turnStatement_0 4 rfl rfl)
theorem dX9_turnStatement_5 : decode cX9_turnStatement 5 = .ok (.iconst 0, 1) := dk_3 (dk_at dksX9_turnStatement_0 5 rfl rfl)
theorem dX9_turnStatement_6 : decode cX9_turnStatement 6 = .ok (.aload_n 0, 1) := dk_42 (dk_at dksX9_turnStatement_0 6 rfl rfl)
theorem dX9_turnStatement_7 : decode cX9_turnStatement 7 = .ok (.getfield 9, 3) := dk_180 0 9 (dk_at dksX9_turnStatement_0 7 rfl rfl)
theorem dX9_turnStatement_10 : decode cX9_turnStatement 10 = .ok (.iconst 0, 1) := dk_3 (dk_at dksX9_turnStatement_0 10 rfl rfl)
theorem dX9_turnStatement_11 : decode cX9_turnStatement 11 = .ok (.iaload, 1) := dk_46 (dk_at dksX9_turnStatement_0 11 rfl rfl)
theorem dX9_turnStatement_12 : decode cX9_turnStatement 12 = .ok (.iconst 1, 1) := dk_4 (dk_at dksX9_turnStatement_0 12 rfl rfl)
theorem dX9_turnStatement_13 : decode cX9_turnStatement 13 = .ok (.isub, 1) := dk_100 (dk_at dksX9_turnStatement_0 13 rfl rfl)
theorem dX9_turnStatement_14 : decode cX9_turnStatement 14 = .ok (.invokevirtual 270, 3) := dk_182 1 14 (dk_at dksX9_turnStatement_0 14 rfl rfl)
theorem dX9_turnStatement_17 : decode cX9_turnStatement 17 = .ok (.istore_n 1, 1) := dk_60 (dk_at dksX9_turnStatement_0 17 rfl rfl)
theorem dX9_turnStatement_18 : decode cX9_turnStatement 18 = .ok (.aload_n 0, 1) := dk_42 (dk_at dksX9_turnStatement_0 18 rfl rfl)
theorem dX9_turnStatement_19 : decode cX9_turnStatement 19 = .ok (.iconst 0, 1) := dk_3 (dk_at dksX9_turnStatement_0 19 rfl rfl)
theorem dX9_turnStatement_20 : decode cX9_turnStatement 20 = .ok (.aload_n 0, 1) := dk_42 (dk_at dksX9_turnStatement_0 20 rfl rfl)
theorem dX9_turnStatement_21 : decode cX9_turnStatement 21 = .ok (.getfield 9, 3) := dk_180 0 9 (dk_at dksX9_turnStatement_0 21 rfl rfl)
theorem dX9_turnStatement_24 : decode cX9_turnStatement 24 = .ok (.iconst 1, 1) := dk_4 (dk_at dksX9_turnStatement_1 0 rfl rfl)
theorem dX9_turnStatement_25 : decode cX9_turnStatement 25 = .ok (.iaload, 1) := dk_46 (dk_at dksX9_turnStatement_1 1 rfl rfl)
theorem dX9_turnStatement_26 : decode cX9_turnStatement 26 = .ok (.iconst 1, 1) := dk_4 (dk_at dksX9_turnStatement_1 2 rfl rfl)
theorem dX9_turnStatement_27 : decode cX9_turnStatement 27 = .ok (.isub, 1) := dk_100 (dk_at dksX9_turnStatement_1 3 rfl rfl)
theorem dX9_turnStatement_28 : decode cX9_turnStatement 28 = .ok (.invokevirtual 257, 3) := dk_182 1 1 (dk_at dksX9_turnStatement_1 4 rfl rfl)
theorem dX9_turnStatement_31 : decode cX9_turnStatement 31 = .ok (.aload_n 0, 1) := dk_42 (dk_at dksX9_turnStatement_1 7 rfl rfl)
theorem dX9_turnStatement_32 : decode cX9_turnStatement 32 = .ok (.iload_n 1, 1) := dk_27 (dk_at dksX9_turnStatement_1 8 rfl rfl)
theorem dX9_turnStatement_33 : decode cX9_turnStatement 33 = .ok (.aload_n 0, 1) := dk_42 (dk_at dksX9_turnStatement_1 9 rfl rfl)
theorem dX9_turnStatement_34 : decode cX9_turnStatement 34 = .ok (.getfield 236, 3) := dk_180 0 236 (dk_at dksX9_turnStatement_1 10 rfl rfl)
theorem dX9_turnStatement_37 : decode cX9_turnStatement 37 = .ok (.invokevirtual 102, 3) := dk_182 0 102 (dk_at dksX9_turnStatement_1 13 rfl rfl)
theorem dX9_turnStatement_40 : decode cX9_turnStatement 40 = .ok (.istore_n 2, 1) := dk_61 (dk_at dksX9_turnStatement_1 16 rfl rfl)
theorem dX9_turnStatement_41 : decode cX9_turnStatement 41 = .ok (.aload_n 0, 1) := dk_42 (dk_at dksX9_turnStatement_1 17 rfl rfl)
theorem dX9_turnStatement_42 : decode cX9_turnStatement 42 = .ok (.getfield 248, 3) := dk_180 0 248 (dk_at dksX9_turnStatement_1 18 rfl rfl)
theorem dX9_turnStatement_45 : decode cX9_turnStatement 45 = .ok (.ifCond .ne 16, 3) := dk_154 0 16 (dk_at dksX9_turnStatement_1 21 rfl rfl)
theorem dX9_turnStatement_48 : decode cX9_turnStatement 48 = .ok (.aload_n 0, 1) := dk_42 (dk_at dksX9_turnStatement_2 0 rfl rfl)
theorem dX9_turnStatement_49 : decode cX9_turnStatement 49 = .ok (.iload_n 2, 1) := dk_28 (dk_at dksX9_turnStatement_2 1 rfl rfl)
theorem dX9_turnStatement_50 : decode cX9_turnStatement 50 = .ok (.invokevirtual 184, 3) := dk_182 0 184 (dk_at dksX9_turnStatement_2 2 rfl rfl)
theorem dX9_turnStatement_53 : decode cX9_turnStatement 53 = .ok (.ifCond .eq 8, 3) := dk_153 0 8 (dk_at dksX9_turnStatement_2 5 rfl rfl)
theorem dX9_turnStatement_56 : decode cX9_turnStatement 56 = .ok (.aload_n 0, 1) := dk_42 (dk_at dksX9_turnStatement_2 8 rfl rfl)
theorem dX9_turnStatement_57 : decode cX9_turnStatement 57 = .ok (.iconst 5, 1) := dk_8 (dk_at dksX9_turnStatement_2 9 rfl rfl)
theorem dX9_turnStatement_58 : decode cX9_turnStatement 58 = .ok (.invokevirtual 251, 3) := dk_182 0 251 (dk_at dksX9_turnStatement_2 10 rfl rfl)
theorem dX9_turnStatement_61 : decode cX9_turnStatement 61 = .ok (.aload_n 0, 1) := dk_42 (dk_at dksX9_turnStatement_2 13 rfl rfl)
theorem dX9_turnStatement_62 : decode cX9_turnStatement 62 = .ok (.getfield 248, 3) := dk_180 0 248 (dk_at dksX9_turnStatement_2 14 rfl rfl)
theorem dX9_turnStatement_65 : decode cX9_turnStatement 65 = .ok (.ifCond .ne 7, 3) := dk_154 0 7 (dk_at dksX9_turnStatement_2 17 rfl rfl)
theorem dX9_turnStatement_68 : decode cX9_turnStatement 68 = .ok (.aload_n 0, 1) := dk_42 (dk_at dksX9_turnStatement_2 20 rfl rfl)
theorem dX9_turnStatement_69 : decode cX9_turnStatement 69 = .ok (.invokevirtual 254, 3) := dk_182 0 254 (dk_at dksX9_turnStatement_2 21 rfl rfl)
theorem dX9_turnStatement_72 : decode cX9_turnStatement 72 = .ok (.aload_n 0, 1) := dk_42 (dk_at dksX9_turnStatement_3 0 rfl rfl)
theorem dX9_turnStatement_73 : decode cX9_turnStatement 73 = .ok (.invokevirtual 274, 3) := dk_182 1 18 (dk_at dksX9_turnStatement_3 1 rfl rfl)
theorem dX9_turnStatement_76 : decode cX9_turnStatement 76 = .ok (.aload_n 0, 1) := dk_42 (dk_at dksX9_turnStatement_3 4 rfl rfl)
theorem dX9_turnStatement_77 : decode cX9_turnStatement 77 = .ok (.getfield 248, 3) := dk_180 0 248 (dk_at dksX9_turnStatement_3 5 rfl rfl)
theorem dX9_turnStatement_80 : decode cX9_turnStatement 80 = .ok (.ifCond .ne 9, 3) := dk_154 0 9 (dk_at dksX9_turnStatement_3 8 rfl rfl)
theorem dX9_turnStatement_83 : decode cX9_turnStatement 83 = .ok (.aload_n 0, 1) := dk_42 (dk_at dksX9_turnStatement_3 11 rfl rfl)
theorem dX9_turnStatement_84 : decode cX9_turnStatement 84 = .ok (.iload_n 2, 1) := dk_28 (dk_at dksX9_turnStatement_3 12 rfl rfl)
theorem dX9_turnStatement_85 : decode cX9_turnStatement 85 = .ok (.invokevirtual 212, 3) := dk_182 0 212 (dk_at dksX9_turnStatement_3 13 rfl rfl)
theorem dX9_turnStatement_88 : decode cX9_turnStatement 88 = .ok (.pop, 1) := dk_87 (dk_at dksX9_turnStatement_3 16 rfl rfl)
theorem dX9_turnStatement_89 : decode cX9_turnStatement 89 = .ok (.return_, 1) := dk_177 (dk_at dksX9_turnStatement_3 17 rfl rfl)
abbrev cX9_free : ByteArray := prog_15_method_69_code
def yX9_free : MethodName := ⟨RX9, "free", "(I)I"⟩
def dkwX9_free_3 : List UInt8 := [182, 0, 254, 42, 180, 0, 248, 154, 0, 7, 29, 167, 0, 4, 3, 172]
abbrev dktX9_free_3 : List UInt8 := dkwX9_free_3 ++ []
def dkwX9_free_2 : List UInt8 := [182, 0, 106, 154, 0, 8, 29, 27, 160, 0, 8, 42, 6, 182, 0, 251, 42, 180, 0, 248, 154, 0, 7, 42]
abbrev dktX9_free_2 : List UInt8 := dkwX9_free_2 ++ dktX9_free_3
def dkwX9_free_1 : List UInt8 := [182, 1, 1, 42, 28, 42, 180, 0, 236, 182, 0, 102, 62, 42, 180, 0, 248, 154, 0, 22, 42, 29, 3]
abbrev dktX9_free_1 : List UInt8 := dkwX9_free_1 ++ dktX9_free_2
def dkwX9_free_0 : List UInt8 := [42, 3, 42, 180, 0, 9, 3, 46, 4, 100, 182, 1, 14, 61, 42, 3, 42, 180, 0, 9, 4, 46, 4, 100]
abbrev dktX9_free_0 : List UInt8 := dkwX9_free_0 ++ dktX9_free_1
theorem dksX9_free_0 : cX9_free.data.toList.drop 0 = dktX9_free_0 := by decide +kernel
theorem dksX9_free_1 : cX9_free.data.toList.drop 24 = dktX9_free_1 := dk_seg dksX9_free_0 24 rfl rfl
theorem dksX9_free_2 : cX9_free.data.toList.drop 47 = dktX9_free_2 := dk_seg dksX9_free_1 23 rfl rfl
theorem dksX9_free_3 : cX9_free.data.toList.drop 71 = dktX9_free_3 := dk_seg dksX9_free_2 24 rfl rfl
theorem dX9_free_0 : decode cX9_free 0 = .ok (.aload_n 0, 1) := dk_42 (dk_at dksX9_free_0 0 rfl rfl)
theorem dX9_free_1 : decode cX9_free 1 = .ok (.iconst 0, 1) := dk_3 (dk_at dksX9_free_0 1 rfl rfl)
theorem dX9_free_2 : decode cX9_free 2 = .ok (.aload_n 0, 1) := dk_42 (dk_at dksX9_free_0 2 rfl rfl)
theorem dX9_free_3 : decode cX9_free 3 = .ok (.getfield 9, 3) := dk_180 0 9 (dk_at dksX9_free_0 3 rfl rfl)
theorem dX9_free_6 : decode cX9_free 6 = .ok (.iconst 0, 1) := dk_3 (dk_at dksX9_free_0 6 rfl rfl)
theorem dX9_free_7 : decode cX9_free 7 = .ok (.iaload, 1) := dk_46 (dk_at dksX9_free_0 7 rfl rfl)
theorem dX9_free_8 : decode cX9_free 8 = .ok (.iconst 1, 1) := dk_4 (dk_at dksX9_free_0 8 rfl rfl)
theorem dX9_free_9 : decode cX9_free 9 = .ok (.isub, 1) := dk_100 (dk_at dksX9_free_0 9 rfl rfl)
theorem dX9_free_10 : decode cX9_free 10 = .ok (.invokevirtual 270, 3) := dk_182 1 14 (dk_at dksX9_free_0 10 rfl rfl)
theorem dX9_free_13 : decode cX9_free 13 = .ok (.istore_n 2, 1) := dk_61 (dk_at dksX9_free_0 13 rfl rfl)
theorem dX9_free_14 : decode cX9_free 14 = .ok (.aload_n 0, 1) := dk_42 (dk_at dksX9_free_0 14 rfl rfl)
theorem dX9_free_15 : decode cX9_free 15 = .ok (.iconst 0, 1) := dk_3 (dk_at dksX9_free_0 15 rfl rfl)
theorem dX9_free_16 : decode cX9_free 16 = .ok (.aload_n 0, 1) := dk_42 (dk_at dksX9_free_0 16 rfl rfl)
theorem dX9_free_17 : decode cX9_free 17 = .ok (.getfield 9, 3) := dk_180 0 9 (dk_at dksX9_free_0 17 rfl rfl)
theorem dX9_free_20 : decode cX9_free 20 = .ok (.iconst 1, 1) := dk_4 (dk_at dksX9_free_0 20 rfl rfl)
theorem dX9_free_21 : decode cX9_free 21 = .ok (.iaload, 1) := dk_46 (dk_at dksX9_free_0 21 rfl rfl)
theorem dX9_free_22 : decode cX9_free 22 = .ok (.iconst 1, 1) := dk_4 (dk_at dksX9_free_0 22 rfl rfl)
theorem dX9_free_23 : decode cX9_free 23 = .ok (.isub, 1) := dk_100 (dk_at dksX9_free_0 23 rfl rfl)
theorem dX9_free_24 : decode cX9_free 24 = .ok (.invokevirtual 257, 3) := dk_182 1 1 (dk_at dksX9_free_1 0 rfl rfl)
theorem dX9_free_27 : decode cX9_free 27 = .ok (.aload_n 0, 1) := dk_42 (dk_at dksX9_free_1 3 rfl rfl)
theorem dX9_free_28 : decode cX9_free 28 = .ok (.iload_n 2, 1) := dk_28 (dk_at dksX9_free_1 4 rfl rfl)
theorem dX9_free_29 : decode cX9_free 29 = .ok (.aload_n 0, 1) := dk_42 (dk_at dksX9_free_1 5 rfl rfl)
theorem dX9_free_30 : decode cX9_free 30 = .ok (.getfield 236, 3) := dk_180 0 236 (dk_at dksX9_free_1 6 rfl rfl)
theorem dX9_free_33 : decode cX9_free 33 = .ok (.invokevirtual 102, 3) := dk_182 0 102 (dk_at dksX9_free_1 9 rfl rfl)
theorem dX9_free_36 : decode cX9_free 36 = .ok (.istore_n 3, 1) := dk_62 (dk_at dksX9_free_1 12 rfl rfl)
theorem dX9_free_37 : decode cX9_free 37 = .ok (.aload_n 0, 1) := dk_42 (dk_at dksX9_free_1 13 rfl rfl)
theorem dX9_free_38 : decode cX9_free 38 = .ok (.getfield 248, 3) := dk_180 0 248 (dk_at dksX9_free_1 14 rfl rfl)
theorem dX9_free_41 : decode cX9_free 41 = .ok (.ifCond .ne 22, 3) := dk_154 0 22 (dk_at dksX9_free_1 17 rfl rfl)
theorem dX9_free_44 : decode cX9_free 44 = .ok (.aload_n 0, 1) := dk_42 (dk_at dksX9_free_1 20 rfl rfl)
theorem dX9_free_45 : decode cX9_free 45 = .ok (.iload_n 3, 1) := dk_29 (dk_at dksX9_free_1 21 rfl rfl)
theorem dX9_free_46 : decode cX9_free 46 = .ok (.iconst 0, 1) := dk_3 (dk_at dksX9_free_1 22 rfl rfl)
theorem dX9_free_47 : decode cX9_free 47 = .ok (.invokevirtual 106, 3) := dk_182 0 106 (dk_at dksX9_free_2 0 rfl rfl)
theorem dX9_free_50 : decode cX9_free 50 = .ok (.ifCond .ne 8, 3) := dk_154 0 8 (dk_at dksX9_free_2 3 rfl rfl)
theorem dX9_free_53 : decode cX9_free 53 = .ok (.iload_n 3, 1) := dk_29 (dk_at dksX9_free_2 6 rfl rfl)
theorem dX9_free_54 : decode cX9_free 54 = .ok (.iload_n 1, 1) := dk_27 (dk_at dksX9_free_2 7 rfl rfl)
theorem dX9_free_55 : decode cX9_free 55 = .ok (.if_icmp .ne 8, 3) := dk_160 0 8 (dk_at dksX9_free_2 8 rfl rfl)
theorem dX9_free_58 : decode cX9_free 58 = .ok (.aload_n 0, 1) := dk_42 (dk_at dksX9_free_2 11 rfl rfl)
theorem dX9_free_59 : decode cX9_free 59 = .ok (.iconst 3, 1) := dk_6 (dk_at dksX9_free_2 12 rfl rfl)
theorem dX9_free_60 : decode cX9_free 60 = .ok (.invokevirtual 251, 3) := dk_182 0 251 (dk_at dksX9_free_2 13 rfl rfl)
theorem dX9_free_63 : decode cX9_free 63 = .ok (.aload_n 0, 1) := dk_42 (dk_at dksX9_free_2 16 rfl rfl)
theorem dX9_free_64 : decode cX9_free 64 = .ok (.getfield 248, 3) := dk_180 0 248 (dk_at dksX9_free_2 17 rfl rfl)
theorem dX9_free_67 : decode cX9_free 67 = .ok (.ifCond .ne 7, 3) := dk_154 0 7 (dk_at dksX9_free_2 20 rfl rfl)
theorem dX9_free_70 : decode cX9_free 70 = .ok (.aload_n 0, 1) := dk_42 (dk_at dksX9_free_2 23 rfl rfl)
theorem dX9_free_71 : decode cX9_free 71 = .ok (.invokevirtual 254, 3) := dk_182 0 254 (dk_at dksX9_free_3 0 rfl rfl)
theorem dX9_free_74 : decode cX9_free 74 = .ok (.aload_n 0, 1) := dk_42 (dk_at dksX9_free_3 3 rfl rfl)
theorem dX9_free_75 : decode cX9_free 75 = .ok (.getfield 248, 3) := dk_180 0 248 (dk_at dksX9_free_3 4 rfl rfl)
theorem dX9_free_78 : decode cX9_free 78 = .ok (.ifCond .ne 7, 3) := dk_154 0 7 (dk_at dksX9_free_3 7 rfl rfl)
theorem dX9_free_81 : decode cX9_free 81 = .ok (.iload_n 3, 1) := dk_29 (dk_at dksX9_free_3 10 rfl rfl)
theorem dX9_free_82 : decode cX9_free 82 = .ok (.goto 4, 3) := dk_167 0 4 (dk_at dksX9_free_3 11 rfl rfl)
theorem dX9_free_85 : decode cX9_free 85 = .ok (.iconst 0, 1) := dk_3 (dk_at dksX9_free_3 14 rfl rfl)
theorem dX9_free_86 : decode cX9_free 86 = .ok (.ireturn, 1) := dk_172 (dk_at dksX9_free_3 15 rfl rfl)
abbrev cX9_layAt : ByteArray := prog_15_method_70_code
def yX9_layAt : MethodName := ⟨RX9, "layAt", "(IIII)V"⟩
def dkwX9_layAt_1 : List UInt8 := [182, 0, 79, 87, 177]
abbrev dktX9_layAt_1 : List UInt8 := dkwX9_layAt_1 ++ []
def dkwX9_layAt_0 : List UInt8 := [42, 180, 0, 248, 154, 0, 24, 42, 27, 16, 10, 112, 27, 16, 10, 108, 28, 29, 21, 4, 182, 0, 75, 42]
abbrev dktX9_layAt_0 : List UInt8 := dkwX9_layAt_0 ++ dktX9_layAt_1
theorem dksX9_layAt_0 : cX9_layAt.data.toList.drop 0 = dktX9_layAt_0 := by decide +kernel
theorem dksX9_layAt_1 : cX9_layAt.data.toList.drop 24 = dktX9_layAt_1 := dk_seg dksX9_layAt_0 24 rfl rfl
theorem dX9_layAt_0 : decode cX9_layAt 0 = .ok (.aload_n 0, 1) := dk_42 (dk_at dksX9_layAt_0 0 rfl rfl)
theorem dX9_layAt_1 : decode cX9_layAt 1 = .ok (.getfield 248, 3) := dk_180 0 248 (dk_at dksX9_layAt_0 1 rfl rfl)
theorem dX9_layAt_4 : decode cX9_layAt 4 = .ok (.ifCond .ne 24, 3) := dk_154 0 24 (dk_at dksX9_layAt_0 4 rfl rfl)
theorem dX9_layAt_7 : decode cX9_layAt 7 = .ok (.aload_n 0, 1) := dk_42 (dk_at dksX9_layAt_0 7 rfl rfl)
theorem dX9_layAt_8 : decode cX9_layAt 8 = .ok (.iload_n 1, 1) := dk_27 (dk_at dksX9_layAt_0 8 rfl rfl)
theorem dX9_layAt_9 : decode cX9_layAt 9 = .ok (.bipush 10, 2) := dk_16 10 (dk_at dksX9_layAt_0 9 rfl rfl)
theorem dX9_layAt_11 : decode cX9_layAt 11 = .ok (.irem, 1) := dk_112 (dk_at dksX9_layAt_0 11 rfl rfl)
theorem dX9_layAt_12 : decode cX9_layAt 12 = .ok (.iload_n 1, 1) := dk_27 (dk_at dksX9_layAt_0 12 rfl rfl)
theorem dX9_layAt_13 : decode cX9_layAt 13 = .ok (.bipush 10, 2) := dk_16 10 (dk_at dksX9_layAt_0 13 rfl rfl)
theorem dX9_layAt_15 : decode cX9_layAt 15 = .ok (.idiv, 1) := dk_108 (dk_at dksX9_layAt_0 15 rfl rfl)
theorem dX9_layAt_16 : decode cX9_layAt 16 = .ok (.iload_n 2, 1) := dk_28 (dk_at dksX9_layAt_0 16 rfl rfl)
theorem dX9_layAt_17 : decode cX9_layAt 17 = .ok (.iload_n 3, 1) := dk_29 (dk_at dksX9_layAt_0 17 rfl rfl)
theorem dX9_layAt_18 : decode cX9_layAt 18 = .ok (.iload 4, 2) := dk_21 4 (dk_at dksX9_layAt_0 18 rfl rfl)
theorem dX9_layAt_20 : decode cX9_layAt 20 = .ok (.invokevirtual 75, 3) := dk_182 0 75 (dk_at dksX9_layAt_0 20 rfl rfl)
theorem dX9_layAt_23 : decode cX9_layAt 23 = .ok (.aload_n 0, 1) := dk_42 (dk_at dksX9_layAt_0 23 rfl rfl)
theorem dX9_layAt_24 : decode cX9_layAt 24 = .ok (.invokevirtual 79, 3) := dk_182 0 79 (dk_at dksX9_layAt_1 0 rfl rfl)
theorem dX9_layAt_27 : decode cX9_layAt 27 = .ok (.pop, 1) := dk_87 (dk_at dksX9_layAt_1 3 rfl rfl)
theorem dX9_layAt_28 : decode cX9_layAt 28 = .ok (.return_, 1) := dk_177 (dk_at dksX9_layAt_1 4 rfl rfl)
abbrev cX9_mirrorStatement : ByteArray := prog_15_method_71_code
def yX9_mirrorStatement : MethodName := ⟨RX9, "mirrorStatement", "()V"⟩
def dkwX9_mirrorStatement_6 : List UInt8 := [167, 0, 4, 3, 21, 4, 182, 1, 34, 177]
abbrev dktX9_mirrorStatement_6 : List UInt8 := dkwX9_mirrorStatement_6 ++ []
def dkwX9_mirrorStatement_5 : List UInt8 := [182, 0, 254, 42, 4, 5, 182, 1, 14, 54, 4, 42, 182, 1, 18, 42, 28, 27, 29, 153, 0, 7, 4]
abbrev dktX9_mirrorStatement_5 : List UInt8 := dkwX9_mirrorStatement_5 ++ dktX9_mirrorStatement_6
def dkwX9_mirrorStatement_4 : List UInt8 := [182, 1, 10, 3, 54, 4, 42, 180, 0, 248, 154, 0, 25, 42, 19, 1, 64, 182, 1, 6, 153, 0, 15, 42]
abbrev dktX9_mirrorStatement_4 : List UInt8 := dkwX9_mirrorStatement_4 ++ dktX9_mirrorStatement_5
def dkwX9_mirrorStatement_3 : List UInt8 := [154, 0, 26, 42, 29, 154, 0, 13, 42, 19, 1, 62, 182, 1, 6, 153, 0, 7, 4, 167, 0, 4, 3]
abbrev dktX9_mirrorStatement_3 : List UInt8 := dkwX9_mirrorStatement_3 ++ dktX9_mirrorStatement_4
def dkwX9_mirrorStatement_2 : List UInt8 := [154, 0, 17, 42, 19, 1, 60, 182, 1, 6, 153, 0, 7, 4, 167, 0, 4, 3, 62, 42, 180, 0, 248]
abbrev dktX9_mirrorStatement_2 : List UInt8 := dkwX9_mirrorStatement_2 ++ dktX9_mirrorStatement_3
def dkwX9_mirrorStatement_1 : List UInt8 := [160, 0, 9, 42, 7, 182, 0, 251, 177, 42, 182, 0, 254, 42, 2, 182, 1, 31, 61, 42, 180, 0, 248]
abbrev dktX9_mirrorStatement_1 : List UInt8 := dkwX9_mirrorStatement_1 ++ dktX9_mirrorStatement_2
def dkwX9_mirrorStatement_0 : List UInt8 := [42, 19, 1, 39, 182, 1, 6, 153, 0, 7, 6, 167, 0, 4, 5, 60, 42, 5, 182, 0, 161, 16, 12]
abbrev dktX9_mirrorStatement_0 : List UInt8 := dkwX9_mirrorStatement_0 ++ dktX9_mirrorStatement_1
theorem dksX9_mirrorStatement_0 : cX9_mirrorStatement.data.toList.drop 0 = dktX9_mirrorStatement_0 := by decide +kernel
theorem dksX9_mirrorStatement_1 : cX9_mirrorStatement.data.toList.drop 23 = dktX9_mirrorStatement_1 := dk_seg dksX9_mirrorStatement_0 23 rfl rfl
theorem dksX9_mirrorStatement_2 : cX9_mirrorStatement.data.toList.drop 46 = dktX9_mirrorStatement_2 := dk_seg dksX9_mirrorStatement_1 23 rfl rfl
theorem dksX9_mirrorStatement_3 : cX9_mirrorStatement.data.toList.drop 69 = dktX9_mirrorStatement_3 := dk_seg dksX9_mirrorStatement_2 23 rfl rfl
theorem dksX9_mirrorStatement_4 : cX9_mirrorStatement.data.toList.drop 92 = dktX9_mirrorStatement_4 := dk_seg dksX9_mirrorStatement_3 23 rfl rfl
theorem dksX9_mirrorStatement_5 : cX9_mirrorStatement.data.toList.drop 116 = dktX9_mirrorStatement_5 := dk_seg dksX9_mirrorStatement_4 24 rfl rfl
theorem dksX9_mirrorStatement_6 : cX9_mirrorStatement.data.toList.drop 139 = dktX9_mirrorStatement_6 := dk_seg dksX9_mirrorStatement_5 23 rfl rfl
theorem dX9_mirrorStatement_0 : decode cX9_mirrorStatement 0 = .ok (.aload_n 0, 1) := dk_42 (dk_at dksX9_mirrorStatement_0 0 rfl rfl)
theorem dX9_mirrorStatement_1 : decode cX9_mirrorStatement 1 = .ok (.ldc_w 295, 3) := dk_19 1 39 (dk_at dksX9_mirrorStatement_0 1 rfl rfl)
theorem dX9_mirrorStatement_4 : decode cX9_mirrorStatement 4 = .ok (.invokevirtual 262, 3) := dk_182 1 6 (dk_at dksX9_mirrorStatement_0 4 rfl rfl)
theorem dX9_mirrorStatement_7 : decode cX9_mirrorStatement 7 = .ok (.ifCond .eq 7, 3) := dk_153 0 7 (dk_at dksX9_mirrorStatement_0 7 rfl rfl)
theorem dX9_mirrorStatement_10 : decode cX9_mirrorStatement 10 = .ok (.iconst 3, 1) := dk_6 (dk_at dksX9_mirrorStatement_0 10 rfl rfl)
theorem dX9_mirrorStatement_11 : decode cX9_mirrorStatement 11 = .ok (.goto 4, 3) := dk_167 0 4 (dk_at dksX9_mirrorStatement_0 11 rfl rfl)
theorem dX9_mirrorStatement_14 : decode cX9_mirrorStatement 14 = .ok (.iconst 2, 1) := dk_5 (dk_at dksX9_mirrorStatement_0 14 rfl rfl)
theorem dX9_mirrorStatement_15 : decode cX9_mirrorStatement 15 = .ok (.istore_n 1, 1) := dk_60 (dk_at dksX9_mirrorStatement_0 15 rfl rfl)
theorem dX9_mirrorStatement_16 : decode cX9_mirrorStatement 16 = .ok (.aload_n 0, 1) := dk_42 (dk_at dksX9_mirrorStatement_0 16 rfl rfl)
theorem dX9_mirrorStatement_17 : decode cX9_mirrorStatement 17 = .ok (.iconst 2, 1) := dk_5 (dk_at dksX9_mirrorStatement_0 17 rfl rfl)
theorem dX9_mirrorStatement_18 : decode cX9_mirrorStatement 18 = .ok (.invokevirtual 161, 3) := dk_182 0 161 (dk_at dksX9_mirrorStatement_0 18 rfl rfl)
theorem dX9_mirrorStatement_21 : decode cX9_mirrorStatement 21 = .ok (.bipush 12, 2) := dk_16 12 (dk_at dksX9_mirrorStatement_0 21 rfl rfl)
theorem dX9_mirrorStatement_23 : decode cX9_mirrorStatement 23 = .ok (.if_icmp .ne 9, 3) := dk_160 0 9 (dk_at dksX9_mirrorStatement_1 0 rfl rfl)
theorem dX9_mirrorStatement_26 : decode cX9_mirrorStatement 26 = .ok (.aload_n 0, 1) := dk_42 (dk_at dksX9_mirrorStatement_1 3 rfl rfl)
theorem dX9_mirrorStatement_27 : decode cX9_mirrorStatement 27 = .ok (.iconst 4, 1) := dk_7 (dk_at dksX9_mirrorStatement_1 4 rfl rfl)
theorem dX9_mirrorStatement_28 : decode cX9_mirrorStatement 28 = .ok (.invokevirtual 251, 3) := dk_182 0 251 (dk_at dksX9_mirrorStatement_1 5 rfl rfl)
theorem dX9_mirrorStatement_31 : decode cX9_mirrorStatement 31 = .ok (.return_, 1) := dk_177 (dk_at dksX9_mirrorStatement_1 8 rfl rfl)
theorem dX9_mirrorStatement_32 : decode cX9_mirrorStatement 32 = .ok (.aload_n 0, 1) := dk_42 (dk_at dksX9_mirrorStatement_1 9 rfl rfl)
theorem dX9_mirrorStatement_33 : decode cX9_mirrorStatement 33 = .ok (.invokevirtual 254, 3) := dk_182 0 254 (dk_at dksX9_mirrorStatement_1 10 rfl rfl)
theorem dX9_mirrorStatement_36 : decode cX9_mirrorStatement 36 = .ok (.aload_n 0, 1) := dk_42 (dk_at dksX9_mirrorStatement_1 13 rfl rfl)
theorem dX9_mirrorStatement_37 : decode cX9_mirrorStatement 37 = .ok (.iconst (-1), 1) := dk_2 (dk_at dksX9_mirrorStatement_1 14 rfl rfl)
theorem dX9_mirrorStatement_38 : decode cX9_mirrorStatement 38 = .ok (.invokevirtual 287, 3) := dk_182 1 31 (dk_at dksX9_mirrorStatement_1 15 rfl rfl)
theorem dX9_mirrorStatement_41 : decode cX9_mirrorStatement 41 = .ok (.istore_n 2, 1) := dk_61 (dk_at dksX9_mirrorStatement_1 18 rfl rfl)
theorem dX9_mirrorStatement_42 : decode cX9_mirrorStatement 42 = .ok (.aload_n 0, 1) := dk_42 (dk_at dksX9_mirrorStatement_1 19 rfl rfl)
theorem dX9_mirrorStatement_43 : decode cX9_mirrorStatement 43 = .ok (.getfield 248, 3) := dk_180 0 248 (dk_at dksX9_mirrorStatement_1 20 rfl rfl)
theorem dX9_mirrorStatement_46 : decode cX9_mirrorStatement 46 = .ok (.ifCond .ne 17, 3) := dk_154 0 17 (dk_at dksX9_mirrorStatement_2 0 rfl rfl)
theorem dX9_mirrorStatement_49 : decode cX9_mirrorStatement 49 = .ok (.aload_n 0, 1) := dk_42 (dk_at dksX9_mirrorStatement_2 3 rfl rfl)
theorem dX9_mirrorStatement_50 : decode cX9_mirrorStatement 50 = .ok (.ldc_w 316, 3) := dk_19 1 60 (dk_at dksX9_mirrorStatement_2 4 rfl rfl)
theorem dX9_mirrorStatement_53 : decode cX9_mirrorStatement 53 = .ok (.invokevirtual 262, 3) := dk_182 1 6 (dk_at dksX9_mirrorStatement_2 7 rfl rfl)
theorem dX9_mirrorStatement_56 : decode cX9_mirrorStatement 56 = .ok (.ifCond .eq 7, 3) := dk_153 0 7 (dk_at dksX9_mirrorStatement_2 10 rfl rfl)
theorem dX9_mirrorStatement_59 : decode cX9_mirrorStatement 59 = .ok (.iconst 1, 1) := dk_4 (dk_at dksX9_mirrorStatement_2 13 rfl rfl)
theorem dX9_mirrorStatement_60 : decode cX9_mirrorStatement 60 = .ok (.goto 4, 3) := dk_167 0 4 (dk_at dksX9_mirrorStatement_2 14 rfl rfl)
theorem dX9_mirrorStatement_63 : decode cX9_mirrorStatement 63 = .ok (.iconst 0, 1) := dk_3 (dk_at dksX9_mirrorStatement_2 17 rfl rfl)
theorem dX9_mirrorStatement_64 : decode cX9_mirrorStatement 64 = .ok (.istore_n 3, 1) := dk_62 (dk_at dksX9_mirrorStatement_2 18 rfl rfl)
theorem dX9_mirrorStatement_65 : decode cX9_mirrorStatement 65 = .ok (.aload_n 0, 1) := dk_42 (dk_at dksX9_mirrorStatement_2 19 rfl rfl)
theorem dX9_mirrorStatement_66 : decode cX9_mirrorStatement 66 = .ok (.getfield 248, 3) := dk_180 0 248 (dk_at dksX9_mirrorStatement_2 20 rfl rfl)
theorem dX9_mirrorStatement_69 : decode cX9_mirrorStatement 69 = .ok (.ifCond .ne 26, 3) := dk_154 0 26 (dk_at dksX9_mirrorStatement_3 0 rfl rfl)
theorem dX9_mirrorStatement_72 : decode cX9_mirrorStatement 72 = .ok (.aload_n 0, 1) := dk_42 (dk_at dksX9_mirrorStatement_3 3 rfl rfl)
theorem dX9_mirrorStatement_73 : decode cX9_mirrorStatement 73 = .ok (.iload_n 3, 1) := dk_29 (dk_at dksX9_mirrorStatement_3 4 rfl rfl)
theorem dX9_mirrorStatement_74 : decode cX9_mirrorStatement 74 = .ok (.ifCond .ne 13, 3) := dk_154 0 13 (dk_at dksX9_mirrorStatement_3 5 rfl rfl)
theorem dX9_mirrorStatement_77 : decode cX9_mirrorStatement 77 = .ok (.aload_n 0, 1) := dk_42 (dk_at dksX9_mirrorStatement_3 8 rfl rfl)
theorem dX9_mirrorStatement_78 : decode cX9_mirrorStatement 78 = .ok (.ldc_w 318, 3) := dk_19 1 62 (dk_at dksX9_mirrorStatement_3 9 rfl rfl)
theorem dX9_mirrorStatement_81 : decode cX9_mirrorStatement 81 = .ok (.invokevirtual 262, 3) := dk_182 1 6 (dk_at dksX9_mirrorStatement_3 12 rfl rfl)
theorem dX9_mirrorStatement_84 : decode cX9_mirrorStatement 84 = .ok (.ifCond .eq 7, 3) := dk_153 0 7 (dk_at dksX9_mirrorStatement_3 15 rfl rfl)
theorem dX9_mirrorStatement_87 : decode cX9_mirrorStatement 87 = .ok (.iconst 1, 1) := dk_4 (dk_at dksX9_mirrorStatement_3 18 rfl rfl)
theorem dX9_mirrorStatement_88 : decode cX9_mirrorStatement 88 = .ok (.goto 4, 3) := dk_167 0 4 (dk_at dksX9_mirrorStatement_3 19 rfl rfl)
theorem dX9_mirrorStatement_91 : decode cX9_mirrorStatement 91 = .ok (.iconst 0, 1) := dk_3 (dk_at dksX9_mirrorStatement_3 22 rfl rfl)
theorem dX9_mirrorStatement_92 : decode cX9_mirrorStatement 92 = .ok (.invokevirtual 266, 3) := dk_182 1 10 (dk_at dksX9_mirrorStatement_4 0 rfl rfl)
theorem dX9_mirrorStatement_95 : decode cX9_mirrorStatement 95 = .ok (.iconst 0, 1) := dk_3 (dk_at dksX9_mirrorStatement_4 3 rfl rfl)
theorem dX9_mirrorStatement_96 : decode cX9_mirrorStatement 96 = .ok (.istore 4, 2) := dk_54 4 (dk_at dksX9_mirrorStatement_4 4 rfl rfl)
theorem dX9_mirrorStatement_98 : decode cX9_mirrorStatement 98 = .ok (.aload_n 0, 1) := dk_42 (dk_at dksX9_mirrorStatement_4 6 rfl rfl)
theorem dX9_mirrorStatement_99 : decode cX9_mirrorStatement 99 = .ok (.getfield 248, 3) := dk_180 0 248 (dk_at dksX9_mirrorStatement_4 7 rfl rfl)
theorem dX9_mirrorStatement_102 : decode cX9_mirrorStatement 102 = .ok (.ifCond .ne 25, 3) := dk_154 0 25 (dk_at dksX9_mirrorStatement_4 10 rfl rfl)
theorem dX9_mirrorStatement_105 : decode cX9_mirrorStatement 105 = .ok (.aload_n 0, 1) := dk_42 (dk_at dksX9_mirrorStatement_4 13 rfl rfl)
theorem dX9_mirrorStatement_106 : decode cX9_mirrorStatement 106 = .ok (.ldc_w 320, 3) := dk_19 1 64 (dk_at dksX9_mirrorStatement_4 14 rfl rfl)
theorem dX9_mirrorStatement_109 : decode cX9_mirrorStatement 109 = .ok (.invokevirtual 262, 3) := dk_182 1 6 (dk_at dksX9_mirrorStatement_4 17 rfl rfl)
theorem dX9_mirrorStatement_112 : decode cX9_mirrorStatement 112 = .ok (.ifCond .eq 15, 3) := dk_153 0 15 (dk_at dksX9_mirrorStatement_4 20 rfl rfl)
theorem dX9_mirrorStatement_115 : decode cX9_mirrorStatement 115 = .ok (.aload_n 0, 1) := dk_42 (dk_at dksX9_mirrorStatement_4 23 rfl rfl)
theorem dX9_mirrorStatement_116 : decode cX9_mirrorStatement 116 = .ok (.invokevirtual 254, 3) := dk_182 0 254 (dk_at dksX9_mirrorStatement_5 0 rfl rfl)
theorem dX9_mirrorStatement_119 : decode cX9_mirrorStatement 119 = .ok (.aload_n 0, 1) := dk_42 (dk_at dksX9_mirrorStatement_5 3 rfl rfl)
theorem dX9_mirrorStatement_120 : decode cX9_mirrorStatement 120 = .ok (.iconst 1, 1) := dk_4 (dk_at dksX9_mirrorStatement_5 4 rfl rfl)
theorem dX9_mirrorStatement_121 : decode cX9_mirrorStatement 121 = .ok (.iconst 2, 1) := dk_5 (dk_at dksX9_mirrorStatement_5 5 rfl rfl)
theorem dX9_mirrorStatement_122 : decode cX9_mirrorStatement 122 = .ok (.invokevirtual 270, 3) := dk_182 1 14 (dk_at dksX9_mirrorStatement_5 6 rfl rfl)
theorem dX9_mirrorStatement_125 : decode cX9_mirrorStatement 125 = .ok (.istore 4, 2) := dk_54 4 (dk_at dksX9_mirrorStatement_5 9 rfl rfl)
theorem dX9_mirrorStatement_127 : decode cX9_mirrorStatement 127 = .ok (.aload_n 0, 1) := dk_42 (dk_at dksX9_mirrorStatement_5 11 rfl rfl)
theorem dX9_mirrorStatement_128 : decode cX9_mirrorStatement 128 = .ok (.invokevirtual 274, 3) := dk_182 1 18 (dk_at dksX9_mirrorStatement_5 12 rfl rfl)
theorem dX9_mirrorStatement_131 : decode cX9_mirrorStatement 131 = .ok (.aload_n 0, 1) := dk_42 (dk_at dksX9_mirrorStatement_5 15 rfl rfl)
theorem dX9_mirrorStatement_132 : decode cX9_mirrorStatement 132 = .ok (.iload_n 2, 1) := dk_28 (dk_at dksX9_mirrorStatement_5 16 rfl rfl)
theorem dX9_mirrorStatement_133 : decode cX9_mirrorStatement 133 = .ok (.iload_n 1, 1) := dk_27 (dk_at dksX9_mirrorStatement_5 17 rfl rfl)
theorem dX9_mirrorStatement_134 : decode cX9_mirrorStatement 134 = .ok (.iload_n 3, 1) := dk_29 (dk_at dksX9_mirrorStatement_5 18 rfl rfl)
theorem dX9_mirrorStatement_135 : decode cX9_mirrorStatement 135 = .ok (.ifCond .eq 7, 3) := dk_153 0 7 (dk_at dksX9_mirrorStatement_5 19 rfl rfl)
theorem dX9_mirrorStatement_138 : decode cX9_mirrorStatement 138 = .ok (.iconst 1, 1) := dk_4 (dk_at dksX9_mirrorStatement_5 22 rfl rfl)
theorem dX9_mirrorStatement_139 : decode cX9_mirrorStatement 139 = .ok (.goto 4, 3) := dk_167 0 4 (dk_at dksX9_mirrorStatement_6 0 rfl rfl)
theorem dX9_mirrorStatement_142 : decode cX9_mirrorStatement 142 = .ok (.iconst 0, 1) := dk_3 (dk_at dksX9_mirrorStatement_6 3 rfl rfl)
theorem dX9_mirrorStatement_143 : decode cX9_mirrorStatement 143 = .ok (.iload 4, 2) := dk_21 4 (dk_at dksX9_mirrorStatement_6 4 rfl rfl)
theorem dX9_mirrorStatement_145 : decode cX9_mirrorStatement 145 = .ok (.invokevirtual 290, 3) := dk_182 1 34 (dk_at dksX9_mirrorStatement_6 6 rfl rfl)
theorem dX9_mirrorStatement_148 : decode cX9_mirrorStatement 148 = .ok (.return_, 1) := dk_177 (dk_at dksX9_mirrorStatement_6 9 rfl rfl)
abbrev cX9_doorStatement : ByteArray := prog_15_method_72_code
def yX9_doorStatement : MethodName := ⟨RX9, "doorStatement", "()V"⟩
def dkwX9_doorStatement_1 : List UInt8 := [182, 1, 31, 60, 42, 4, 5, 182, 1, 14, 61, 42, 182, 1, 18, 42, 27, 7, 2, 28, 182, 1, 34, 177]
abbrev dktX9_doorStatement_1 : List UInt8 := dkwX9_doorStatement_1 ++ []
def dkwX9_doorStatement_0 : List UInt8 := [42, 7, 182, 0, 161, 16, 8, 160, 0, 9, 42, 7, 182, 0, 251, 177, 42, 182, 0, 254, 42, 2]
abbrev dktX9_doorStatement_0 : List UInt8 := dkwX9_doorStatement_0 ++ dktX9_doorStatement_1
theorem dksX9_doorStatement_0 : cX9_doorStatement.data.toList.drop 0 = dktX9_doorStatement_0 := by decide +kernel
theorem dksX9_doorStatement_1 : cX9_doorStatement.data.toList.drop 22 = dktX9_doorStatement_1 := dk_seg dksX9_doorStatement_0 22 rfl rfl
theorem dX9_doorStatement_0 : decode cX9_doorStatement 0 = .ok (.aload_n 0, 1) := dk_42 (dk_at dksX9_doorStatement_0 0 rfl rfl)
theorem dX9_doorStatement_1 : decode cX9_doorStatement 1 = .ok (.iconst 4, 1) := dk_7 (dk_at dksX9_doorStatement_0 1 rfl rfl)
theorem dX9_doorStatement_2 : decode cX9_doorStatement 2 = .ok (.invokevirtual 161, 3) := dk_182 0 161 (dk_at dksX9_doorStatement_0 2 rfl rfl)
theorem dX9_doorStatement_5 : decode cX9_doorStatement 5 = .ok (.bipush 8, 2) := dk_16 8 (dk_at dksX9_doorStatement_0 5 rfl rfl)
theorem dX9_doorStatement_7 : decode cX9_doorStatement 7 = .ok (.if_icmp .ne 9, 3) := dk_160 0 9 (dk_at dksX9_doorStatement_0 7 rfl rfl)
theorem dX9_doorStatement_10 : decode cX9_doorStatement 10 = .ok (.aload_n 0, 1) := dk_42 (dk_at dksX9_doorStatement_0 10 rfl rfl)
theorem dX9_doorStatement_11 : decode cX9_doorStatement 11 = .ok (.iconst 4, 1) := dk_7 (dk_at dksX9_doorStatement_0 11 rfl rfl)
theorem dX9_doorStatement_12 : decode cX9_doorStatement 12 = .ok (.invokevirtual 251, 3) := dk_182 0 251 (dk_at dksX9_doorStatement_0 12 rfl rfl)
theorem dX9_doorStatement_15 : decode cX9_doorStatement 15 = .ok (.return_, 1) := dk_177 (dk_at dksX9_doorStatement_0 15 rfl rfl)
theorem dX9_doorStatement_16 : decode cX9_doorStatement 16 = .ok (.aload_n 0, 1) := dk_42 (dk_at dksX9_doorStatement_0 16 rfl rfl)
theorem dX9_doorStatement_17 : decode cX9_doorStatement 17 = .ok (.invokevirtual 254, 3) := dk_182 0 254 (dk_at dksX9_doorStatement_0 17 rfl rfl)
theorem dX9_doorStatement_20 : decode cX9_doorStatement 20 = .ok (.aload_n 0, 1) := dk_42 (dk_at dksX9_doorStatement_0 20 rfl rfl)
theorem dX9_doorStatement_21 : decode cX9_doorStatement 21 = .ok (.iconst (-1), 1) := dk_2 (dk_at dksX9_doorStatement_0 21 rfl rfl)
theorem dX9_doorStatement_22 : decode cX9_doorStatement 22 = .ok (.invokevirtual 287, 3) := dk_182 1 31 (dk_at dksX9_doorStatement_1 0 rfl rfl)
theorem dX9_doorStatement_25 : decode cX9_doorStatement 25 = .ok (.istore_n 1, 1) := dk_60 (dk_at dksX9_doorStatement_1 3 rfl rfl)
theorem dX9_doorStatement_26 : decode cX9_doorStatement 26 = .ok (.aload_n 0, 1) := dk_42 (dk_at dksX9_doorStatement_1 4 rfl rfl)
theorem dX9_doorStatement_27 : decode cX9_doorStatement 27 = .ok (.iconst 1, 1) := dk_4 (dk_at dksX9_doorStatement_1 5 rfl rfl)
theorem dX9_doorStatement_28 : decode cX9_doorStatement 28 = .ok (.iconst 2, 1) := dk_5 (dk_at dksX9_doorStatement_1 6 rfl rfl)
theorem dX9_doorStatement_29 : decode cX9_doorStatement 29 = .ok (.invokevirtual 270, 3) := dk_182 1 14 (dk_at dksX9_doorStatement_1 7 rfl rfl)
theorem dX9_doorStatement_32 : decode cX9_doorStatement 32 = .ok (.istore_n 2, 1) := dk_61 (dk_at dksX9_doorStatement_1 10 rfl rfl)
theorem dX9_doorStatement_33 : decode cX9_doorStatement 33 = .ok (.aload_n 0, 1) := dk_42 (dk_at dksX9_doorStatement_1 11 rfl rfl)
theorem dX9_doorStatement_34 : decode cX9_doorStatement 34 = .ok (.invokevirtual 274, 3) := dk_182 1 18 (dk_at dksX9_doorStatement_1 12 rfl rfl)
theorem dX9_doorStatement_37 : decode cX9_doorStatement 37 = .ok (.aload_n 0, 1) := dk_42 (dk_at dksX9_doorStatement_1 15 rfl rfl)
theorem dX9_doorStatement_38 : decode cX9_doorStatement 38 = .ok (.iload_n 1, 1) := dk_27 (dk_at dksX9_doorStatement_1 16 rfl rfl)
theorem dX9_doorStatement_39 : decode cX9_doorStatement 39 = .ok (.iconst 4, 1) := dk_7 (dk_at dksX9_doorStatement_1 17 rfl rfl)
theorem dX9_doorStatement_40 : decode cX9_doorStatement 40 = .ok (.iconst (-1), 1) := dk_2 (dk_at dksX9_doorStatement_1 18 rfl rfl)
theorem dX9_doorStatement_41 : decode cX9_doorStatement 41 = .ok (.iload_n 2, 1) := dk_28 (dk_at dksX9_doorStatement_1 19 rfl rfl)
theorem dX9_doorStatement_42 : decode cX9_doorStatement 42 = .ok (.invokevirtual 290, 3) := dk_182 1 34 (dk_at dksX9_doorStatement_1 20 rfl rfl)
theorem dX9_doorStatement_45 : decode cX9_doorStatement 45 = .ok (.return_, 1) := dk_177 (dk_at dksX9_doorStatement_1 23 rfl rfl)
abbrev cX9_portalStatement : ByteArray := prog_15_method_73_code
def yX9_portalStatement : MethodName := ⟨RX9, "portalStatement", "()V"⟩
def dkwX9_portalStatement_2 : List UInt8 := [16, 10, 112, 27, 16, 10, 108, 28, 16, 10, 112, 28, 16, 10, 108, 182, 0, 208, 177]
abbrev dktX9_portalStatement_2 : List UInt8 := dkwX9_portalStatement_2 ++ []
def dkwX9_portalStatement_1 : List UInt8 := [182, 1, 31, 60, 42, 27, 182, 1, 31, 61, 42, 182, 1, 18, 42, 180, 0, 248, 154, 0, 23, 42, 27]
abbrev dktX9_portalStatement_1 : List UInt8 := dkwX9_portalStatement_1 ++ dktX9_portalStatement_2
def dkwX9_portalStatement_0 : List UInt8 := [42, 16, 6, 182, 0, 161, 16, 8, 160, 0, 9, 42, 7, 182, 0, 251, 177, 42, 182, 0, 254, 42, 2]
abbrev dktX9_portalStatement_0 : List UInt8 := dkwX9_portalStatement_0 ++ dktX9_portalStatement_1
theorem dksX9_portalStatement_0 : cX9_portalStatement.data.toList.drop 0 = dktX9_portalStatement_0 := by decide +kernel
theorem dksX9_portalStatement_1 : cX9_portalStatement.data.toList.drop 23 = dktX9_portalStatement_1 := dk_seg dksX9_portalStatement_0 23 rfl rfl
theorem dksX9_portalStatement_2 : cX9_portalStatement.data.toList.drop 46 = dktX9_portalStatement_2 := dk_seg dksX9_portalStatement_1 23 rfl rfl
theorem dX9_portalStatement_0 : decode cX9_portalStatement 0 = .ok (.aload_n 0, 1) := dk_42 (dk_at dksX9_portalStatement_0 0 rfl rfl)
theorem dX9_portalStatement_1 : decode cX9_portalStatement 1 = .ok (.bipush 6, 2) := dk_16 6 (dk_at dksX9_portalStatement_0 1 rfl rfl)
theorem dX9_portalStatement_3 : decode cX9_portalStatement 3 = .ok (.invokevirtual 161, 3) := dk_182 0 161 (dk_at dksX9_portalStatement_0 3 rfl rfl)
theorem dX9_portalStatement_6 : decode cX9_portalStatement 6 = .ok (.bipush 8, 2) := dk_16 8 (dk_at dksX9_portalStatement_0 6 rfl rfl)
theorem dX9_portalStatement_8 : decode cX9_portalStatement 8 = .ok (.if_icmp .ne 9, 3) := dk_160 0 9 (dk_at dksX9_portalStatement_0 8 rfl rfl)
theorem dX9_portalStatement_11 : decode cX9_portalStatement 11 = .ok (.aload_n 0, 1) := dk_42 (dk_at dksX9_portalStatement_0 11 rfl rfl)
theorem dX9_portalStatement_12 : decode cX9_portalStatement 12 = .ok (.iconst 4, 1) := dk_7 (dk_at dksX9_portalStatement_0 12 rfl rfl)
theorem dX9_portalStatement_13 : decode cX9_portalStatement 13 = .ok (.invokevirtual 251, 3) := dk_182 0 251 (dk_at dksX9_portalStatement_0 13 rfl rfl)
theorem dX9_portalStatement_16 : decode cX9_portalStatement 16 = .ok (.return_, 1) := dk_177 (dk_at dksX9_portalStatement_0 16 rfl rfl)
theorem dX9_portalStatement_17 : decode cX9_portalStatement 17 = .ok (.aload_n 0, 1) := dk_42 (dk_at dksX9_portalStatement_0 17 rfl rfl)
theorem dX9_portalStatement_18 : decode cX9_portalStatement 18 = .ok (.invokevirtual 254, 3) := dk_182 0 254 (dk_at dksX9_portalStatement_0 18 rfl rfl)
theorem dX9_portalStatement_21 : decode cX9_portalStatement 21 = .ok (.aload_n 0, 1) := dk_42 (dk_at dksX9_portalStatement_0 21 rfl rfl)
theorem dX9_portalStatement_22 : decode cX9_portalStatement 22 = .ok (.iconst (-1), 1) := dk_2 (dk_at dksX9_portalStatement_0 22 rfl rfl)
theorem dX9_portalStatement_23 : decode cX9_portalStatement 23 = .ok (.invokevirtual 287, 3) := dk_182 1 31 (dk_at dksX9_portalStatement_1 0 rfl rfl)
theorem dX9_portalStatement_26 : decode cX9_portalStatement 26 = .ok (.istore_n 1, 1) := dk_60 (dk_at dksX9_portalStatement_1 3 rfl rfl)
theorem dX9_portalStatement_27 : decode cX9_portalStatement 27 = .ok (.aload_n 0, 1) := dk_42 (dk_at dksX9_portalStatement_1 4 rfl rfl)
theorem dX9_portalStatement_28 : decode cX9_portalStatement 28 = .ok (.iload_n 1, 1) := dk_27 (dk_at dksX9_portalStatement_1 5 rfl rfl)
theorem dX9_portalStatement_29 : decode cX9_portalStatement 29 = .ok (.invokevirtual 287, 3) := dk_182 1 31 (dk_at dksX9_portalStatement_1 6 rfl rfl)
theorem dX9_portalStatement_32 : decode cX9_portalStatement 32 = .ok (.istore_n 2, 1) := dk_61 (dk_at dksX9_portalStatement_1 9 rfl rfl)
theorem dX9_portalStatement_33 : decode cX9_portalStatement 33 = .ok (.aload_n 0, 1) := dk_42 (dk_at dksX9_portalStatement_1 10 rfl rfl)
theorem dX9_portalStatement_34 : decode cX9_portalStatement 34 = .ok (.invokevirtual 274, 3) := dk_182 1 18 (dk_at dksX9_portalStatement_1 11 rfl rfl)
theorem dX9_portalStatement_37 : decode cX9_portalStatement 37 = .ok (.aload_n 0, 1) := dk_42 (dk_at dksX9_portalStatement_1 14 rfl rfl)
theorem dX9_portalStatement_38 : decode cX9_portalStatement 38 = .ok (.getfield 248, 3) := dk_180 0 248 (dk_at dksX9_portalStatement_1 15 rfl rfl)
theorem dX9_portalStatement_41 : decode cX9_portalStatement 41 = .ok (.ifCond .ne 23, 3) := dk_154 0 23 (dk_at dksX9_portalStatement_1 18 rfl rfl)
theorem dX9_portalStatement_44 : decode cX9_portalStatement 44 = .ok (.aload_n 0, 1) := dk_42 (dk_at dksX9_portalStatement_1 21 rfl rfl)
theorem dX9_portalStatement_45 : decode cX9_portalStatement 45 = .ok (.iload_n 1, 1) := dk_27 (dk_at dksX9_portalStatement_1 22 rfl rfl)
theorem dX9_portalStatement_46 : decode cX9_portalStatement 46 = .ok (.bipush 10, 2) := dk_16 10 (dk_at dksX9_portalStatement_2 0 rfl rfl)
theorem dX9_portalStatement_48 : decode cX9_portalStatement 48 = .ok (.irem, 1) := dk_112 (dk_at dksX9_portalStatement_2 2 rfl rfl)
theorem dX9_portalStatement_49 : decode cX9_portalStatement 49 = .ok (.iload_n 1, 1) := dk_27 (dk_at dksX9_portalStatement_2 3 rfl rfl)
theorem dX9_portalStatement_50 : decode cX9_portalStatement 50 = .ok (.bipush 10, 2) := dk_16 10 (dk_at dksX9_portalStatement_2 4 rfl rfl)
theorem dX9_portalStatement_52 : decode cX9_portalStatement 52 = .ok (.idiv, 1) := dk_108 (dk_at dksX9_portalStatement_2 6 rfl rfl)
theorem dX9_portalStatement_53 : decode cX9_portalStatement 53 = .ok (.iload_n 2, 1) := dk_28 (dk_at dksX9_portalStatement_2 7 rfl rfl)
theorem dX9_portalStatement_54 : decode cX9_portalStatement 54 = .ok (.bipush 10, 2) := dk_16 10 (dk_at dksX9_portalStatement_2 8 rfl rfl)
theorem dX9_portalStatement_56 : decode cX9_portalStatement 56 = .ok (.irem, 1) := dk_112 (dk_at dksX9_portalStatement_2 10 rfl rfl)
theorem dX9_portalStatement_57 : decode cX9_portalStatement 57 = .ok (.iload_n 2, 1) := dk_28 (dk_at dksX9_portalStatement_2 11 rfl rfl)
theorem dX9_portalStatement_58 : decode cX9_portalStatement 58 = .ok (.bipush 10, 2) := dk_16 10 (dk_at dksX9_portalStatement_2 12 rfl rfl)
theorem dX9_portalStatement_60 : decode cX9_portalStatement 60 = .ok (.idiv, 1) := dk_108 (dk_at dksX9_portalStatement_2 14 rfl rfl)
theorem dX9_portalStatement_61 : decode cX9_portalStatement 61 = .ok (.invokevirtual 208, 3) := dk_182 0 208 (dk_at dksX9_portalStatement_2 15 rfl rfl)
theorem dX9_portalStatement_64 : decode cX9_portalStatement 64 = .ok (.return_, 1) := dk_177 (dk_at dksX9_portalStatement_2 18 rfl rfl)
abbrev cX9_append : ByteArray := prog_15_method_76_code
def yX9_append : MethodName := ⟨RX9, "append", "(IIIII)I"⟩
def dkwX9_append_2 : List UInt8 := [182, 1, 65, 42, 180, 0, 218, 172]
abbrev dktX9_append_2 : List UInt8 := dkwX9_append_2 ++ []
def dkwX9_append_1 : List UInt8 := [182, 1, 65, 42, 28, 182, 1, 65, 42, 29, 182, 1, 65, 42, 21, 4, 182, 1, 65, 42, 21, 5]
abbrev dktX9_append_1 : List UInt8 := dkwX9_append_1 ++ dktX9_append_2
def dkwX9_append_0 : List UInt8 := [42, 3, 181, 0, 83, 42, 180, 0, 218, 16, 20, 96, 17, 2, 88, 164, 0, 6, 16, 236, 172, 42, 27]
abbrev dktX9_append_0 : List UInt8 := dkwX9_append_0 ++ dktX9_append_1
theorem dksX9_append_0 : cX9_append.data.toList.drop 0 = dktX9_append_0 := by decide +kernel
theorem dksX9_append_1 : cX9_append.data.toList.drop 23 = dktX9_append_1 := dk_seg dksX9_append_0 23 rfl rfl
theorem dksX9_append_2 : cX9_append.data.toList.drop 45 = dktX9_append_2 := dk_seg dksX9_append_1 22 rfl rfl
theorem dX9_append_0 : decode cX9_append 0 = .ok (.aload_n 0, 1) := dk_42 (dk_at dksX9_append_0 0 rfl rfl)
theorem dX9_append_1 : decode cX9_append 1 = .ok (.iconst 0, 1) := dk_3 (dk_at dksX9_append_0 1 rfl rfl)
theorem dX9_append_2 : decode cX9_append 2 = .ok (.putfield 83, 3) := dk_181 0 83 (dk_at dksX9_append_0 2 rfl rfl)
theorem dX9_append_5 : decode cX9_append 5 = .ok (.aload_n 0, 1) := dk_42 (dk_at dksX9_append_0 5 rfl rfl)
theorem dX9_append_6 : decode cX9_append 6 = .ok (.getfield 218, 3) := dk_180 0 218 (dk_at dksX9_append_0 6 rfl rfl)
theorem dX9_append_9 : decode cX9_append 9 = .ok (.bipush 20, 2) := dk_16 20 (dk_at dksX9_append_0 9 rfl rfl)
theorem dX9_append_11 : decode cX9_append 11 = .ok (.iadd, 1) := dk_96 (dk_at dksX9_append_0 11 rfl rfl)
theorem dX9_append_12 : decode cX9_append 12 = .ok (.sipush 600, 3) := dk_17 2 88 (dk_at dksX9_append_0 12 rfl rfl)
theorem dX9_append_15 : decode cX9_append 15 = .ok (.if_icmp .le 6, 3) := dk_164 0 6 (dk_at dksX9_append_0 15 rfl rfl)
theorem dX9_append_18 : decode cX9_append 18 = .ok (.bipush (-20), 2) := dk_16 236 (dk_at dksX9_append_0 18 rfl rfl)
theorem dX9_append_20 : decode cX9_append 20 = .ok (.ireturn, 1) := dk_172 (dk_at dksX9_append_0 20 rfl rfl)
theorem dX9_append_21 : decode cX9_append 21 = .ok (.aload_n 0, 1) := dk_42 (dk_at dksX9_append_0 21 rfl rfl)
theorem dX9_append_22 : decode cX9_append 22 = .ok (.iload_n 1, 1) := dk_27 (dk_at dksX9_append_0 22 rfl rfl)
theorem dX9_append_23 : decode cX9_append 23 = .ok (.invokevirtual 321, 3) := dk_182 1 65 (dk_at dksX9_append_1 0 rfl rfl)
theorem dX9_append_26 : decode cX9_append 26 = .ok (.aload_n 0, 1) := dk_42 (dk_at dksX9_append_1 3 rfl rfl)
theorem dX9_append_27 : decode cX9_append 27 = .ok (.iload_n 2, 1) := dk_28 (dk_at dksX9_append_1 4 rfl rfl)
theorem dX9_append_28 : decode cX9_append 28 = .ok (.invokevirtual 321, 3) := dk_182 1 65 (dk_at dksX9_append_1 5 rfl rfl)
theorem dX9_append_31 : decode cX9_append 31 = .ok (.aload_n 0, 1) := dk_42 (dk_at dksX9_append_1 8 rfl rfl)
theorem dX9_append_32 : decode cX9_append 32 = .ok (.iload_n 3, 1) := dk_29 (dk_at dksX9_append_1 9 rfl rfl)
theorem dX9_append_33 : decode cX9_append 33 = .ok (.invokevirtual 321, 3) := dk_182 1 65 (dk_at dksX9_append_1 10 rfl rfl)
theorem dX9_append_36 : decode cX9_append 36 = .ok (.aload_n 0, 1) := dk_42 (dk_at dksX9_append_1 13 rfl rfl)
theorem dX9_append_37 : decode cX9_append 37 = .ok (.iload 4, 2) := dk_21 4 (dk_at dksX9_append_1 14 rfl rfl)
theorem dX9_append_39 : decode cX9_append 39 = .ok (.invokevirtual 321, 3) := dk_182 1 65 (dk_at dksX9_append_1 16 rfl rfl)
theorem dX9_append_42 : decode cX9_append 42 = .ok (.aload_n 0, 1) := dk_42 (dk_at dksX9_append_1 19 rfl rfl)
theorem dX9_append_43 : decode cX9_append 43 = .ok (.iload 5, 2) := dk_21 5 (dk_at dksX9_append_1 20 rfl rfl)
theorem dX9_append_45 : decode cX9_append 45 = .ok (.invokevirtual 321, 3) := dk_182 1 65 (dk_at dksX9_append_2 0 rfl rfl)
theorem dX9_append_48 : decode cX9_append 48 = .ok (.aload_n 0, 1) := dk_42 (dk_at dksX9_append_2 3 rfl rfl)
theorem dX9_append_49 : decode cX9_append 49 = .ok (.getfield 218, 3) := dk_180 0 218 (dk_at dksX9_append_2 4 rfl rfl)
theorem dX9_append_52 : decode cX9_append 52 = .ok (.ireturn, 1) := dk_172 (dk_at dksX9_append_2 7 rfl rfl)
abbrev cX9_type : ByteArray := prog_15_method_75_code
def yX9_type : MethodName := ⟨RX9, "type", "(I)V"⟩
def dkwX9_type_1 : List UInt8 := [89, 180, 0, 218, 4, 96, 181, 0, 218, 132, 2, 248, 167, 255, 223, 177]
abbrev dktX9_type_1 : List UInt8 := dkwX9_type_1 ++ []
def dkwX9_type_0 : List UInt8 := [16, 24, 61, 28, 155, 0, 35, 42, 180, 0, 43, 42, 180, 0, 218, 27, 28, 124, 17, 0, 255, 126, 79, 42]
abbrev dktX9_type_0 : List UInt8 := dkwX9_type_0 ++ dktX9_type_1
theorem dksX9_type_0 : cX9_type.data.toList.drop 0 = dktX9_type_0 := by decide +kernel
theorem dksX9_type_1 : cX9_type.data.toList.drop 24 = dktX9_type_1 := dk_seg dksX9_type_0 24 rfl rfl
theorem dX9_type_0 : decode cX9_type 0 = .ok (.bipush 24, 2) := dk_16 24 (dk_at dksX9_type_0 0 rfl rfl)
theorem dX9_type_2 : decode cX9_type 2 = .ok (.istore_n 2, 1) := dk_61 (dk_at dksX9_type_0 2 rfl rfl)
theorem dX9_type_3 : decode cX9_type 3 = .ok (.iload_n 2, 1) := dk_28 (dk_at dksX9_type_0 3 rfl rfl)
theorem dX9_type_4 : decode cX9_type 4 = .ok (.ifCond .lt 35, 3) := dk_155 0 35 (dk_at dksX9_type_0 4 rfl rfl)
theorem dX9_type_7 : decode cX9_type 7 = .ok (.aload_n 0, 1) := dk_42 (dk_at dksX9_type_0 7 rfl rfl)
theorem dX9_type_8 : decode cX9_type 8 = .ok (.getfield 43, 3) := dk_180 0 43 (dk_at dksX9_type_0 8 rfl rfl)
theorem dX9_type_11 : decode cX9_type 11 = .ok (.aload_n 0, 1) := dk_42 (dk_at dksX9_type_0 11 rfl rfl)
theorem dX9_type_12 : decode cX9_type 12 = .ok (.getfield 218, 3) := dk_180 0 218 (dk_at dksX9_type_0 12 rfl rfl)
theorem dX9_type_15 : decode cX9_type 15 = .ok (.iload_n 1, 1) := dk_27 (dk_at dksX9_type_0 15 rfl rfl)
theorem dX9_type_16 : decode cX9_type 16 = .ok (.iload_n 2, 1) := dk_28 (dk_at dksX9_type_0 16 rfl rfl)
theorem dX9_type_17 : decode cX9_type 17 = .ok (.iushr, 1) := dk_124 (dk_at dksX9_type_0 17 rfl rfl)
theorem dX9_type_18 : decode cX9_type 18 = .ok (.sipush 255, 3) := dk_17 0 255 (dk_at dksX9_type_0 18 rfl rfl)
theorem dX9_type_21 : decode cX9_type 21 = .ok (.iand, 1) := dk_126 (dk_at dksX9_type_0 21 rfl rfl)
theorem dX9_type_22 : decode cX9_type 22 = .ok (.iastore, 1) := dk_79 (dk_at dksX9_type_0 22 rfl rfl)
theorem dX9_type_23 : decode cX9_type 23 = .ok (.aload_n 0, 1) := dk_42 (dk_at dksX9_type_0 23 rfl rfl)
theorem dX9_type_24 : decode cX9_type 24 = .ok (.dup, 1) := dk_89 (dk_at dksX9_type_1 0 rfl rfl)
theorem dX9_type_25 : decode cX9_type 25 = .ok (.getfield 218, 3) := dk_180 0 218 (dk_at dksX9_type_1 1 rfl rfl)
theorem dX9_type_28 : decode cX9_type 28 = .ok (.iconst 1, 1) := dk_4 (dk_at dksX9_type_1 4 rfl rfl)
theorem dX9_type_29 : decode cX9_type 29 = .ok (.iadd, 1) := dk_96 (dk_at dksX9_type_1 5 rfl rfl)
theorem dX9_type_30 : decode cX9_type 30 = .ok (.putfield 218, 3) := dk_181 0 218 (dk_at dksX9_type_1 6 rfl rfl)
theorem dX9_type_33 : decode cX9_type 33 = .ok (.iinc 2 (-8), 3) := dk_132 2 248 (dk_at dksX9_type_1 9 rfl rfl)
theorem dX9_type_36 : decode cX9_type 36 = .ok (.goto (-33), 3) := dk_167 255 223 (dk_at dksX9_type_1 12 rfl rfl)
theorem dX9_type_39 : decode cX9_type 39 = .ok (.return_, 1) := dk_177 (dk_at dksX9_type_1 15 rfl rfl)
abbrev cX9_truncate : ByteArray := prog_15_method_77_code
def yX9_truncate : MethodName := ⟨RX9, "truncate", "(I)I"⟩
def dkwX9_truncate_1 : List UInt8 := [181, 0, 218, 42, 180, 0, 218, 172]
abbrev dktX9_truncate_1 : List UInt8 := dkwX9_truncate_1 ++ []
def dkwX9_truncate_0 : List UInt8 := [42, 3, 181, 0, 83, 42, 27, 3, 42, 180, 0, 218, 4, 182, 0, 201, 153, 0, 5, 3, 172, 42, 27]
abbrev dktX9_truncate_0 : List UInt8 := dkwX9_truncate_0 ++ dktX9_truncate_1
theorem dksX9_truncate_0 : cX9_truncate.data.toList.drop 0 = dktX9_truncate_0 := by decide +kernel
theorem dksX9_truncate_1 : cX9_truncate.data.toList.drop 23 = dktX9_truncate_1 := dk_seg dksX9_truncate_0 23 rfl rfl
theorem dX9_truncate_0 : decode cX9_truncate 0 = .ok (.aload_n 0, 1) := dk_42 (dk_at dksX9_truncate_0 0 rfl rfl)
theorem dX9_truncate_1 : decode cX9_truncate 1 = .ok (.iconst 0, 1) := dk_3 (dk_at dksX9_truncate_0 1 rfl rfl)
theorem dX9_truncate_2 : decode cX9_truncate 2 = .ok (.putfield 83, 3) := dk_181 0 83 (dk_at dksX9_truncate_0 2 rfl rfl)
theorem dX9_truncate_5 : decode cX9_truncate 5 = .ok (.aload_n 0, 1) := dk_42 (dk_at dksX9_truncate_0 5 rfl rfl)
theorem dX9_truncate_6 : decode cX9_truncate 6 = .ok (.iload_n 1, 1) := dk_27 (dk_at dksX9_truncate_0 6 rfl rfl)
theorem dX9_truncate_7 : decode cX9_truncate 7 = .ok (.iconst 0, 1) := dk_3 (dk_at dksX9_truncate_0 7 rfl rfl)
theorem dX9_truncate_8 : decode cX9_truncate 8 = .ok (.aload_n 0, 1) := dk_42 (dk_at dksX9_truncate_0 8 rfl rfl)
theorem dX9_truncate_9 : decode cX9_truncate 9 = .ok (.getfield 218, 3) := dk_180 0 218 (dk_at dksX9_truncate_0 9 rfl rfl)
theorem dX9_truncate_12 : decode cX9_truncate 12 = .ok (.iconst 1, 1) := dk_4 (dk_at dksX9_truncate_0 12 rfl rfl)
theorem dX9_truncate_13 : decode cX9_truncate 13 = .ok (.invokevirtual 201, 3) := dk_182 0 201 (dk_at dksX9_truncate_0 13 rfl rfl)
theorem dX9_truncate_16 : decode cX9_truncate 16 = .ok (.ifCond .eq 5, 3) := dk_153 0 5 (dk_at dksX9_truncate_0 16 rfl rfl)
theorem dX9_truncate_19 : decode cX9_truncate 19 = .ok (.iconst 0, 1) := dk_3 (dk_at dksX9_truncate_0 19 rfl rfl)
theorem dX9_truncate_20 : decode cX9_truncate 20 = .ok (.ireturn, 1) := dk_172 (dk_at dksX9_truncate_0 20 rfl rfl)
theorem dX9_truncate_21 : decode cX9_truncate 21 = .ok (.aload_n 0, 1) := dk_42 (dk_at dksX9_truncate_0 21 rfl rfl)
theorem dX9_truncate_22 : decode cX9_truncate 22 = .ok (.iload_n 1, 1) := dk_27 (dk_at dksX9_truncate_0 22 rfl rfl)
theorem dX9_truncate_23 : decode cX9_truncate 23 = .ok (.putfield 218, 3) := dk_181 0 218 (dk_at dksX9_truncate_1 0 rfl rfl)
theorem dX9_truncate_26 : decode cX9_truncate 26 = .ok (.aload_n 0, 1) := dk_42 (dk_at dksX9_truncate_1 3 rfl rfl)
theorem dX9_truncate_27 : decode cX9_truncate 27 = .ok (.getfield 218, 3) := dk_180 0 218 (dk_at dksX9_truncate_1 4 rfl rfl)
theorem dX9_truncate_30 : decode cX9_truncate 30 = .ok (.ireturn, 1) := dk_172 (dk_at dksX9_truncate_1 7 rfl rfl)
abbrev cX9_board : ByteArray := prog_15_method_78_code
def yX9_board : MethodName := ⟨RX9, "board", "(I)I"⟩
def dkwX9_board_6 : List UInt8 := [5, 182, 0, 174, 172, 42, 180, 0, 91, 172, 42, 180, 0, 218, 172]
abbrev dktX9_board_6 : List UInt8 := dkwX9_board_6 ++ []
def dkwX9_board_5 : List UInt8 := [182, 0, 180, 153, 0, 7, 4, 167, 0, 4, 3, 172, 42, 182, 1, 68, 172, 42, 4, 182, 0, 174, 172, 42]
abbrev dktX9_board_5 : List UInt8 := dkwX9_board_5 ++ dktX9_board_6
def dkwX9_board_4 : List UInt8 := [46, 172, 42, 180, 0, 9, 6, 46, 172, 42, 180, 0, 9, 7, 46, 172, 42, 180, 0, 9, 8, 46, 172, 42]
abbrev dktX9_board_4 : List UInt8 := dkwX9_board_4 ++ dktX9_board_5
def dkwX9_board_3 : List UInt8 := [182, 0, 161, 172, 42, 16, 6, 182, 0, 161, 5, 108, 172, 42, 3, 182, 0, 161, 172, 42, 180, 0, 9, 5]
abbrev dktX9_board_3 : List UInt8 := dkwX9_board_3 ++ dktX9_board_4
def dkwX9_board_2 : List UInt8 := [42, 180, 0, 9, 3, 46, 172, 42, 180, 0, 9, 4, 46, 172, 42, 5, 182, 0, 161, 172, 42, 7]
abbrev dktX9_board_2 : List UInt8 := dkwX9_board_2 ++ dktX9_board_3
def dkwX9_board_1 : List UInt8 := [170, 0, 0, 0, 0, 0, 0, 180, 0, 0, 0, 0, 0, 0, 0, 14, 0, 0, 0, 76, 0, 0, 0, 83, 0, 0, 0, 90, 0, 0, 0, 96, 0, 0, 0, 102, 0, 0, 0, 111, 0, 0, 0, 117, 0, 0, 0, 124, 0, 0, 0, 131, 0, 0, 0, 138, 0, 0, 0, 145, 0, 0, 0, 158, 0, 0, 0, 163, 0, 0, 0, 169, 0, 0, 0, 175]
abbrev dktX9_board_1 : List UInt8 := dkwX9_board_1 ++ dktX9_board_2
def dkwX9_board_0 : List UInt8 := [42, 3, 181, 0, 83, 42, 27, 3, 16, 15, 4, 182, 0, 201, 153, 0, 5, 3, 172, 27]
abbrev dktX9_board_0 : List UInt8 := dkwX9_board_0 ++ dktX9_board_1
theorem dksX9_board_0 : cX9_board.data.toList.drop 0 = dktX9_board_0 := by decide +kernel
theorem dksX9_board_1 : cX9_board.data.toList.drop 20 = dktX9_board_1 := dk_seg dksX9_board_0 20 rfl rfl
theorem dksX9_board_2 : cX9_board.data.toList.drop 96 = dktX9_board_2 := dk_seg dksX9_board_1 76 rfl rfl
theorem dksX9_board_3 : cX9_board.data.toList.drop 118 = dktX9_board_3 := dk_seg dksX9_board_2 22 rfl rfl
theorem dksX9_board_4 : cX9_board.data.toList.drop 142 = dktX9_board_4 := dk_seg dksX9_board_3 24 rfl rfl
theorem dksX9_board_5 : cX9_board.data.toList.drop 166 = dktX9_board_5 := dk_seg dksX9_board_4 24 rfl rfl
theorem dksX9_board_6 : cX9_board.data.toList.drop 190 = dktX9_board_6 := dk_seg dksX9_board_5 24 rfl rfl
theorem dX9_board_0 : decode cX9_board 0 = .ok (.aload_n 0, 1) := dk_42 (dk_at dksX9_board_0 0 rfl rfl)
theorem dX9_board_1 : decode cX9_board 1 = .ok (.iconst 0, 1) := dk_3 (dk_at dksX9_board_0 1 rfl rfl)
theorem dX9_board_2 : decode cX9_board 2 = .ok (.putfield 83, 3) := dk_181 0 83 (dk_at dksX9_board_0 2 rfl rfl)
theorem dX9_board_5 : decode cX9_board 5 = .ok (.aload_n 0, 1) := dk_42 (dk_at dksX9_board_0 5 rfl rfl)
theorem dX9_board_6 : decode cX9_board 6 = .ok (.iload_n 1, 1) := dk_27 (dk_at dksX9_board_0 6 rfl rfl)
theorem dX9_board_7 : decode cX9_board 7 = .ok (.iconst 0, 1) := dk_3 (dk_at dksX9_board_0 7 rfl rfl)
theorem dX9_board_8 : decode cX9_board 8 = .ok (.bipush 15, 2) := dk_16 15 (dk_at dksX9_board_0 8 rfl rfl)
theorem dX9_board_10 : decode cX9_board 10 = .ok (.iconst 1, 1) := dk_4 (dk_at dksX9_board_0 10 rfl rfl)
theorem dX9_board_11 : decode cX9_board 11 = .ok (.invokevirtual 201, 3) := dk_182 0 201 (dk_at dksX9_board_0 11 rfl rfl)
theorem dX9_board_14 : decode cX9_board 14 = .ok (.ifCond .eq 5, 3) := dk_153 0 5 (dk_at dksX9_board_0 14 rfl rfl)
theorem dX9_board_17 : decode cX9_board 17 = .ok (.iconst 0, 1) := dk_3 (dk_at dksX9_board_0 17 rfl rfl)
theorem dX9_board_18 : decode cX9_board 18 = .ok (.ireturn, 1) := dk_172 (dk_at dksX9_board_0 18 rfl rfl)
theorem dX9_board_19 : decode cX9_board 19 = .ok (.iload_n 1, 1) := dk_27 (dk_at dksX9_board_0 19 rfl rfl)
theorem dX9_board_20 : decode cX9_board 20 = .ok (.tableswitch 180 0 14 #[76, 83, 90, 96, 102, 111, 117, 124, 131, 138, 145, 158, 163, 169, 175], 76) := by decide +kernel
theorem dX9_board_96 : decode cX9_board 96 = .ok (.aload_n 0, 1) := dk_42 (dk_at dksX9_board_2 0 rfl rfl)
theorem dX9_board_97 : decode cX9_board 97 = .ok (.getfield 9, 3) := dk_180 0 9 (dk_at dksX9_board_2 1 rfl rfl)
theorem dX9_board_100 : decode cX9_board 100 = .ok (.iconst 0, 1) := dk_3 (dk_at dksX9_board_2 4 rfl rfl)
theorem dX9_board_101 : decode cX9_board 101 = .ok (.iaload, 1) := dk_46 (dk_at dksX9_board_2 5 rfl rfl)
theorem dX9_board_102 : decode cX9_board 102 = .ok (.ireturn, 1) := dk_172 (dk_at dksX9_board_2 6 rfl rfl)
theorem dX9_board_103 : decode cX9_board 103 = .ok (.aload_n 0, 1) := dk_42 (dk_at dksX9_board_2 7 rfl rfl)
theorem dX9_board_104 : decode cX9_board 104 = .ok (.getfield 9, 3) := dk_180 0 9 (dk_at dksX9_board_2 8 rfl rfl)
theorem dX9_board_107 : decode cX9_board 107 = .ok (.iconst 1, 1) := dk_4 (dk_at dksX9_board_2 11 rfl rfl)
theorem dX9_board_108 : decode cX9_board 108 = .ok (.iaload, 1) := dk_46 (dk_at dksX9_board_2 12 rfl rfl)
theorem dX9_board_109 : decode cX9_board 109 = .ok (.ireturn, 1) := dk_172 (dk_at dksX9_board_2 13 rfl rfl)
theorem dX9_board_110 : decode cX9_board 110 = .ok (.aload_n 0, 1) := dk_42 (dk_at dksX9_board_2 14 rfl rfl)
theorem dX9_board_111 : decode cX9_board 111 = .ok (.iconst 2, 1) := dk_5 (dk_at dksX9_board_2 15 rfl rfl)
theorem dX9_board_112 : decode cX9_board 112 = .ok (.invokevirtual 161, 3) := dk_182 0 161 (dk_at dksX9_board_2 16 rfl rfl)
theorem dX9_board_115 : decode cX9_board 115 = .ok (.ireturn, 1) := dk_172 (dk_at dksX9_board_2 19 rfl rfl)
theorem dX9_board_116 : decode cX9_board 116 = .ok (.aload_n 0, 1) := dk_42 (dk_at dksX9_board_2 20 rfl rfl)
theorem dX9_board_117 : decode cX9_board 117 = .ok (.iconst 4, 1) := dk_7 (dk_at dksX9_board_2 21 rfl rfl)
theorem dX9_board_118 : decode cX9_board 118 = .ok (.invokevirtual 161, 3) := dk_182 0 161 (dk_at dksX9_board_3 0 rfl rfl)
theorem dX9_board_121 : decode cX9_board 121 = .ok (.ireturn, 1) := dk_172 (dk_at dksX9_board_3 3 rfl rfl)
theorem dX9_board_122 : decode cX9_board 122 = .ok (.aload_n 0, 1) := dk_42 (dk_at dksX9_board_3 4 rfl rfl)
theorem dX9_board_123 : decode cX9_board 123 = .ok (.bipush 6, 2) := dk_16 6 (dk_at dksX9_board_3 5 rfl rfl)
theorem dX9_board_125 : decode cX9_board 125 = .ok (.invokevirtual 161, 3) := dk_182 0 161 (dk_at dksX9_board_3 7 rfl rfl)
theorem dX9_board_128 : decode cX9_board 128 = .ok (.iconst 2, 1) := dk_5 (dk_at dksX9_board_3 10 rfl rfl)
theorem dX9_board_129 : decode cX9_board 129 = .ok (.idiv, 1) := dk_108 (dk_at dksX9_board_3 11 rfl rfl)
theorem dX9_board_130 : decode cX9_board 130 = .ok (.ireturn, 1) := dk_172 (dk_at dksX9_board_3 12 rfl rfl)
theorem dX9_board_131 : decode cX9_board 131 = .ok (.aload_n 0, 1) := dk_42 (dk_at dksX9_board_3 13 rfl rfl)
theorem dX9_board_132 : decode cX9_board 132 = .ok (.iconst 0, 1) := dk_3 (dk_at dksX9_board_3 14 rfl rfl)
theorem dX9_board_133 : decode cX9_board 133 = .ok (.invokevirtual 161, 3) := dk_182 0 161 (dk_at dksX9_board_3 15 rfl rfl)
theorem dX9_board_136 : decode cX9_board 136 = .ok (.ireturn, 1) := dk_172 (dk_at dksX9_board_3 18 rfl rfl)
theorem dX9_board_137 : decode cX9_board 137 = .ok (.aload_n 0, 1) := dk_42 (dk_at dksX9_board_3 19 rfl rfl)
theorem dX9_board_138 : decode cX9_board 138 = .ok (.getfield 9, 3) := dk_180 0 9 (dk_at dksX9_board_3 20 rfl rfl)
theorem dX9_board_141 : decode cX9_board 141 = .ok (.iconst 2, 1) := dk_5 (dk_at dksX9_board_3 23 rfl rfl)
theorem dX9_board_142 : decode cX9_board 142 = .ok (.iaload, 1) := dk_46 (dk_at dksX9_board_4 0 rfl rfl)
theorem dX9_board_143 : decode cX9_board 143 = .ok (.ireturn, 1) := dk_172 (dk_at dksX9_board_4 1 rfl rfl)
theorem dX9_board_144 : decode cX9_board 144 = .ok (.aload_n 0, 1) := dk_42 (dk_at dksX9_board_4 2 rfl rfl)
theorem dX9_board_145 : decode cX9_board 145 = .ok (.getfield 9, 3) := dk_180 0 9 (dk_at dksX9_board_4 3 rfl rfl)
theorem dX9_board_148 : decode cX9_board 148 = .ok (.iconst 3, 1) := dk_6 (dk_at dksX9_board_4 6 rfl rfl)
theorem dX9_board_149 : decode cX9_board 149 = .ok (.iaload, 1) := dk_46 (dk_at dksX9_board_4 7 rfl rfl)
theorem dX9_board_150 : decode cX9_board 150 = .ok (.ireturn, 1) := dk_172 (dk_at dksX9_board_4 8 rfl rfl)
theorem dX9_board_151 : decode cX9_board 151 = .ok (.aload_n 0, 1) := dk_42 (dk_at dksX9_board_4 9 rfl rfl)
theorem dX9_board_152 : decode cX9_board 152 = .ok (.getfield 9, 3) := dk_180 0 9 (dk_at dksX9_board_4 10 rfl rfl)
theorem dX9_board_155 : decode cX9_board 155 = .ok (.iconst 4, 1) := dk_7 (dk_at dksX9_board_4 13 rfl rfl)
theorem dX9_board_156 : decode cX9_board 156 = .ok (.iaload, 1) := dk_46 (dk_at dksX9_board_4 14 rfl rfl)
theorem dX9_board_157 : decode cX9_board 157 = .ok (.ireturn, 1) := dk_172 (dk_at dksX9_board_4 15 rfl rfl)
theorem dX9_board_158 : decode cX9_board 158 = .ok (.aload_n 0, 1) := dk_42 (dk_at dksX9_board_4 16 rfl rfl)
theorem dX9_board_159 : decode cX9_board 159 = .ok (.getfield 9, 3) := dk_180 0 9 (dk_at dksX9_board_4 17 rfl rfl)
theorem dX9_board_162 : decode cX9_board 162 = .ok (.iconst 5, 1) := dk_8 (dk_at dksX9_board_4 20 rfl rfl)
theorem dX9_board_163 : decode cX9_board 163 = .ok (.iaload, 1) := dk_46 (dk_at dksX9_board_4 21 rfl rfl)
theorem dX9_board_164 : decode cX9_board 164 = .ok (.ireturn, 1) := dk_172 (dk_at dksX9_board_4 22 rfl rfl)
theorem dX9_board_165 : decode cX9_board 165 = .ok (.aload_n 0, 1) := dk_42 (dk_at dksX9_board_4 23 rfl rfl)
theorem dX9_board_166 : decode cX9_board 166 = .ok (.invokevirtual 180, 3) := dk_182 0 180 (dk_at dksX9_board_5 0 rfl rfl)
theorem dX9_board_169 : decode cX9_board 169 = .ok (.ifCond .eq 7, 3) := dk_153 0 7 (dk_at dksX9_board_5 3 rfl rfl)
theorem dX9_board_172 : decode cX9_board 172 = .ok (.iconst 1, 1) := dk_4 (dk_at dksX9_board_5 6 rfl rfl)
theorem dX9_board_173 : decode cX9_board 173 = .ok (.goto 4, 3) := dk_167 0 4 (dk_at dksX9_board_5 7 rfl rfl)
theorem dX9_board_176 : decode cX9_board 176 = .ok (.iconst 0, 1) := dk_3 (dk_at dksX9_board_5 10 rfl rfl)
theorem dX9_board_177 : decode cX9_board 177 = .ok (.ireturn, 1) := dk_172 (dk_at dksX9_board_5 11 rfl rfl)
theorem dX9_board_178 : decode cX9_board 178 = .ok (.aload_n 0, 1) := dk_42 (dk_at dksX9_board_5 12 rfl rfl)
theorem dX9_board_179 : decode cX9_board 179 = .ok (.invokevirtual 324, 3) := dk_182 1 68 (dk_at dksX9_board_5 13 rfl rfl)
theorem dX9_board_182 : decode cX9_board 182 = .ok (.ireturn, 1) := dk_172 (dk_at dksX9_board_5 16 rfl rfl)
theorem dX9_board_183 : decode cX9_board 183 = .ok (.aload_n 0, 1) := dk_42 (dk_at dksX9_board_5 17 rfl rfl)
theorem dX9_board_184 : decode cX9_board 184 = .ok (.iconst 1, 1) := dk_4 (dk_at dksX9_board_5 18 rfl rfl)
theorem dX9_board_185 : decode cX9_board 185 = .ok (.invokevirtual 174, 3) := dk_182 0 174 (dk_at dksX9_board_5 19 rfl rfl)
theorem dX9_board_188 : decode cX9_board 188 = .ok (.ireturn, 1) := dk_172 (dk_at dksX9_board_5 22 rfl rfl)
theorem dX9_board_189 : decode cX9_board 189 = .ok (.aload_n 0, 1) := dk_42 (dk_at dksX9_board_5 23 rfl rfl)
theorem dX9_board_190 : decode cX9_board 190 = .ok (.iconst 2, 1) := dk_5 (dk_at dksX9_board_6 0 rfl rfl)
theorem dX9_board_191 : decode cX9_board 191 = .ok (.invokevirtual 174, 3) := dk_182 0 174 (dk_at dksX9_board_6 1 rfl rfl)
theorem dX9_board_194 : decode cX9_board 194 = .ok (.ireturn, 1) := dk_172 (dk_at dksX9_board_6 4 rfl rfl)
theorem dX9_board_195 : decode cX9_board 195 = .ok (.aload_n 0, 1) := dk_42 (dk_at dksX9_board_6 5 rfl rfl)
theorem dX9_board_196 : decode cX9_board 196 = .ok (.getfield 91, 3) := dk_180 0 91 (dk_at dksX9_board_6 6 rfl rfl)
theorem dX9_board_199 : decode cX9_board 199 = .ok (.ireturn, 1) := dk_172 (dk_at dksX9_board_6 9 rfl rfl)
theorem dX9_board_200 : decode cX9_board 200 = .ok (.aload_n 0, 1) := dk_42 (dk_at dksX9_board_6 10 rfl rfl)
theorem dX9_board_201 : decode cX9_board 201 = .ok (.getfield 218, 3) := dk_180 0 218 (dk_at dksX9_board_6 11 rfl rfl)
theorem dX9_board_204 : decode cX9_board 204 = .ok (.ireturn, 1) := dk_172 (dk_at dksX9_board_6 14 rfl rfl)
abbrev cX9_winner : ByteArray := prog_15_method_36_code
def yX9_winner : MethodName := ⟨RX9, "winner", "()I"⟩
def dkwX9_winner_4 : List UInt8 := [167, 0, 21, 42, 4, 182, 0, 174, 42, 5, 182, 0, 174, 164, 0, 7, 4, 167, 0, 4, 5, 172]
abbrev dktX9_winner_4 : List UInt8 := dkwX9_winner_4 ++ []
def dkwX9_winner_3 : List UInt8 := [153, 0, 7, 4, 167, 0, 4, 5, 172, 42, 4, 182, 0, 174, 42, 5, 182, 0, 174, 160, 0, 7, 3]
abbrev dktX9_winner_3 : List UInt8 := dkwX9_winner_3 ++ dktX9_winner_4
def dkwX9_winner_2 : List UInt8 := [172, 42, 4, 182, 0, 177, 154, 0, 11, 42, 5, 182, 0, 177, 153, 0, 17, 42, 4, 182, 0, 177]
abbrev dktX9_winner_2 : List UInt8 := dkwX9_winner_2 ++ dktX9_winner_3
def dkwX9_winner_1 : List UInt8 := [153, 0, 25, 42, 180, 0, 9, 7, 46, 154, 0, 7, 4, 167, 0, 11, 6, 42, 180, 0, 9, 8, 46, 100]
abbrev dktX9_winner_1 : List UInt8 := dkwX9_winner_1 ++ dktX9_winner_2
def dkwX9_winner_0 : List UInt8 := [42, 182, 0, 180, 154, 0, 5, 3, 172, 42, 4, 182, 0, 177, 153, 0, 33, 42, 5, 182, 0, 177]
abbrev dktX9_winner_0 : List UInt8 := dkwX9_winner_0 ++ dktX9_winner_1
theorem dksX9_winner_0 : cX9_winner.data.toList.drop 0 = dktX9_winner_0 := by decide +kernel
theorem dksX9_winner_1 : cX9_winner.data.toList.drop 22 = dktX9_winner_1 := dk_seg dksX9_winner_0 22 rfl rfl
theorem dksX9_winner_2 : cX9_winner.data.toList.drop 46 = dktX9_winner_2 := dk_seg dksX9_winner_1 24 rfl rfl
theorem dksX9_winner_3 : cX9_winner.data.toList.drop 68 = dktX9_winner_3 := dk_seg dksX9_winner_2 22 rfl rfl
theorem dksX9_winner_4 : cX9_winner.data.toList.drop 91 = dktX9_winner_4 := dk_seg dksX9_winner_3 23 rfl rfl
theorem dX9_winner_0 : decode cX9_winner 0 = .ok (.aload_n 0, 1) := dk_42 (dk_at dksX9_winner_0 0 rfl rfl)
theorem dX9_winner_1 : decode cX9_winner 1 = .ok (.invokevirtual 180, 3) := dk_182 0 180 (dk_at dksX9_winner_0 1 rfl rfl)
theorem dX9_winner_4 : decode cX9_winner 4 = .ok (.ifCond .ne 5, 3) := dk_154 0 5 (dk_at dksX9_winner_0 4 rfl rfl)
theorem dX9_winner_7 : decode cX9_winner 7 = .ok (.iconst 0, 1) := dk_3 (dk_at dksX9_winner_0 7 rfl rfl)
theorem dX9_winner_8 : decode cX9_winner 8 = .ok (.ireturn, 1) := dk_172 (dk_at dksX9_winner_0 8 rfl rfl)
theorem dX9_winner_9 : decode cX9_winner 9 = .ok (.aload_n 0, 1) := dk_42 (dk_at dksX9_winner_0 9 rfl rfl)
theorem dX9_winner_10 : decode cX9_winner 10 = .ok (.iconst 1, 1) := dk_4 (dk_at dksX9_winner_0 10 rfl rfl)
theorem dX9_winner_11 : decode cX9_winner 11 = .ok (.invokevirtual 177, 3) := dk_182 0 177 (dk_at dksX9_winner_0 11 rfl rfl)
theorem dX9_winner_14 : decode cX9_winner 14 = .ok (.ifCond .eq 33, 3) := dk_153 0 33 (dk_at dksX9_winner_0 14 rfl rfl)
theorem dX9_winner_17 : decode cX9_winner 17 = .ok (.aload_n 0, 1) := dk_42 (dk_at dksX9_winner_0 17 rfl rfl)
theorem dX9_winner_18 : decode cX9_winner 18 = .ok (.iconst 2, 1) := dk_5 (dk_at dksX9_winner_0 18 rfl rfl)
theorem dX9_winner_19 : decode cX9_winner 19 = .ok (.invokevirtual 177, 3) := dk_182 0 177 (dk_at dksX9_winner_0 19 rfl rfl)
theorem dX9_winner_22 : decode cX9_winner 22 = .ok (.ifCond .eq 25, 3) := dk_153 0 25 (dk_at dksX9_winner_1 0 rfl rfl)
theorem dX9_winner_25 : decode cX9_winner 25 = .ok (.aload_n 0, 1) := dk_42 (dk_at dksX9_winner_1 3 rfl rfl)
theorem dX9_winner_26 : decode cX9_winner 26 = .ok (.getfield 9, 3) := dk_180 0 9 (dk_at dksX9_winner_1 4 rfl rfl)
theorem dX9_winner_29 : decode cX9_winner 29 = .ok (.iconst 4, 1) := dk_7 (dk_at dksX9_winner_1 7 rfl rfl)
theorem dX9_winner_30 : decode cX9_winner 30 = .ok (.iaload, 1) := dk_46 (dk_at dksX9_winner_1 8 rfl rfl)
theorem dX9_winner_31 : decode cX9_winner 31 = .ok (.ifCond .ne 7, 3) := dk_154 0 7 (dk_at dksX9_winner_1 9 rfl rfl)
theorem dX9_winner_34 : decode cX9_winner 34 = .ok (.iconst 1, 1) := dk_4 (dk_at dksX9_winner_1 12 rfl rfl)
theorem dX9_winner_35 : decode cX9_winner 35 = .ok (.goto 11, 3) := dk_167 0 11 (dk_at dksX9_winner_1 13 rfl rfl)
theorem dX9_winner_38 : decode cX9_winner 38 = .ok (.iconst 3, 1) := dk_6 (dk_at dksX9_winner_1 16 rfl rfl)
theorem dX9_winner_39 : decode cX9_winner 39 = .ok (.aload_n 0, 1) := dk_42 (dk_at dksX9_winner_1 17 rfl rfl)
theorem dX9_winner_40 : decode cX9_winner 40 = .ok (.getfield 9, 3) := dk_180 0 9 (dk_at dksX9_winner_1 18 rfl rfl)
theorem dX9_winner_43 : decode cX9_winner 43 = .ok (.iconst 5, 1) := dk_8 (dk_at dksX9_winner_1 21 rfl rfl)
theorem dX9_winner_44 : decode cX9_winner 44 = .ok (.iaload, 1) := dk_46 (dk_at dksX9_winner_1 22 rfl rfl)
theorem dX9_winner_45 : decode cX9_winner 45 = .ok (.isub, 1) := dk_100 (dk_at dksX9_winner_1 23 rfl rfl)
theorem dX9_winner_46 : decode cX9_winner 46 = .ok (.ireturn, 1) := dk_172 (dk_at dksX9_winner_2 0 rfl rfl)
theorem dX9_winner_47 : decode cX9_winner 47 = .ok (.aload_n 0, 1) := dk_42 (dk_at dksX9_winner_2 1 rfl rfl)
theorem dX9_winner_48 : decode cX9_winner 48 = .ok (.iconst 1, 1) := dk_4 (dk_at dksX9_winner_2 2 rfl rfl)
theorem dX9_winner_49 : decode cX9_winner 49 = .ok (.invokevirtual 177, 3) := dk_182 0 177 (dk_at dksX9_winner_2 3 rfl rfl)
theorem dX9_winner_52 : decode cX9_winner 52 = .ok (.ifCond .ne 11, 3) := dk_154 0 11 (dk_at dksX9_winner_2 6 rfl rfl)
theorem dX9_winner_55 : decode cX9_winner 55 = .ok (.aload_n 0, 1) := dk_42 (dk_at dksX9_winner_2 9 rfl rfl)
theorem dX9_winner_56 : decode cX9_winner 56 = .ok (.iconst 2, 1) := dk_5 (dk_at dksX9_winner_2 10 rfl rfl)
theorem dX9_winner_57 : decode cX9_winner 57 = .ok (.invokevirtual 177, 3) := dk_182 0 177 (dk_at dksX9_winner_2 11 rfl rfl)
theorem dX9_winner_60 : decode cX9_winner 60 = .ok (.ifCond .eq 17, 3) := dk_153 0 17 (dk_at dksX9_winner_2 14 rfl rfl)
theorem dX9_winner_63 : decode cX9_winner 63 = .ok (.aload_n 0, 1) := dk_42 (dk_at dksX9_winner_2 17 rfl rfl)
theorem dX9_winner_64 : decode cX9_winner 64 = .ok (.iconst 1, 1) := dk_4 (dk_at dksX9_winner_2 18 rfl rfl)
theorem dX9_winner_65 : decode cX9_winner 65 = .ok (.invokevirtual 177, 3) := dk_182 0 177 (dk_at dksX9_winner_2 19 rfl rfl)
theorem dX9_winner_68 : decode cX9_winner 68 = .ok (.ifCond .eq 7, 3) := dk_153 0 7 (dk_at dksX9_winner_3 0 rfl rfl)
theorem dX9_winner_71 : decode cX9_winner 71 = .ok (.iconst 1, 1) := dk_4 (dk_at dksX9_winner_3 3 rfl rfl)
theorem dX9_winner_72 : decode cX9_winner 72 = .ok (.goto 4, 3) := dk_167 0 4 (dk_at dksX9_winner_3 4 rfl rfl)
theorem dX9_winner_75 : decode cX9_winner 75 = .ok (.iconst 2, 1) := dk_5 (dk_at dksX9_winner_3 7 rfl rfl)
theorem dX9_winner_76 : decode cX9_winner 76 = .ok (.ireturn, 1) := dk_172 (dk_at dksX9_winner_3 8 rfl rfl)
theorem dX9_winner_77 : decode cX9_winner 77 = .ok (.aload_n 0, 1) := dk_42 (dk_at dksX9_winner_3 9 rfl rfl)
theorem dX9_winner_78 : decode cX9_winner 78 = .ok (.iconst 1, 1) := dk_4 (dk_at dksX9_winner_3 10 rfl rfl)
theorem dX9_winner_79 : decode cX9_winner 79 = .ok (.invokevirtual 174, 3) := dk_182 0 174 (dk_at dksX9_winner_3 11 rfl rfl)
theorem dX9_winner_82 : decode cX9_winner 82 = .ok (.aload_n 0, 1) := dk_42 (dk_at dksX9_winner_3 14 rfl rfl)
theorem dX9_winner_83 : decode cX9_winner 83 = .ok (.iconst 2, 1) := dk_5 (dk_at dksX9_winner_3 15 rfl rfl)
theorem dX9_winner_84 : decode cX9_winner 84 = .ok (.invokevirtual 174, 3) := dk_182 0 174 (dk_at dksX9_winner_3 16 rfl rfl)
theorem dX9_winner_87 : decode cX9_winner 87 = .ok (.if_icmp .ne 7, 3) := dk_160 0 7 (dk_at dksX9_winner_3 19 rfl rfl)
theorem dX9_winner_90 : decode cX9_winner 90 = .ok (.iconst 0, 1) := dk_3 (dk_at dksX9_winner_3 22 rfl rfl)
theorem dX9_winner_91 : decode cX9_winner 91 = .ok (.goto 21, 3) := dk_167 0 21 (dk_at dksX9_winner_4 0 rfl rfl)
theorem dX9_winner_94 : decode cX9_winner 94 = .ok (.aload_n 0, 1) := dk_42 (dk_at dksX9_winner_4 3 rfl rfl)
theorem dX9_winner_95 : decode cX9_winner 95 = .ok (.iconst 1, 1) := dk_4 (dk_at dksX9_winner_4 4 rfl rfl)
theorem dX9_winner_96 : decode cX9_winner 96 = .ok (.invokevirtual 174, 3) := dk_182 0 174 (dk_at dksX9_winner_4 5 rfl rfl)
theorem dX9_winner_99 : decode cX9_winner 99 = .ok (.aload_n 0, 1) := dk_42 (dk_at dksX9_winner_4 8 rfl rfl)
theorem dX9_winner_100 : decode cX9_winner 100 = .ok (.iconst 2, 1) := dk_5 (dk_at dksX9_winner_4 9 rfl rfl)
theorem dX9_winner_101 : decode cX9_winner 101 = .ok (.invokevirtual 174, 3) := dk_182 0 174 (dk_at dksX9_winner_4 10 rfl rfl)
theorem dX9_winner_104 : decode cX9_winner 104 = .ok (.if_icmp .le 7, 3) := dk_164 0 7 (dk_at dksX9_winner_4 13 rfl rfl)
theorem dX9_winner_107 : decode cX9_winner 107 = .ok (.iconst 1, 1) := dk_4 (dk_at dksX9_winner_4 16 rfl rfl)
theorem dX9_winner_108 : decode cX9_winner 108 = .ok (.goto 4, 3) := dk_167 0 4 (dk_at dksX9_winner_4 17 rfl rfl)
theorem dX9_winner_111 : decode cX9_winner 111 = .ok (.iconst 2, 1) := dk_5 (dk_at dksX9_winner_4 20 rfl rfl)
theorem dX9_winner_112 : decode cX9_winner 112 = .ok (.ireturn, 1) := dk_172 (dk_at dksX9_winner_4 21 rfl rfl)
abbrev cX9_cell : ByteArray := prog_15_method_79_code
def yX9_cell : MethodName := ⟨RX9, "cell", "(III)I"⟩
def dkwX9_cell_7 : List UInt8 := [182, 0, 164, 172]
abbrev dktX9_cell_7 : List UInt8 := dkwX9_cell_7 ++ []
def dkwX9_cell_6 : List UInt8 := [153, 0, 7, 5, 167, 0, 4, 7, 182, 0, 205, 167, 0, 4, 2, 172, 42, 182, 0, 149, 42, 21, 4]
abbrev dktX9_cell_6 : List UInt8 := dkwX9_cell_6 ++ dktX9_cell_7
def dkwX9_cell_5 : List UInt8 := [5, 182, 0, 106, 167, 0, 4, 2, 172, 21, 5, 153, 0, 26, 42, 21, 4, 42, 21, 4, 182, 0, 109]
abbrev dktX9_cell_5 : List UInt8 := dkwX9_cell_5 ++ dktX9_cell_6
def dkwX9_cell_4 : List UInt8 := [42, 21, 4, 3, 182, 0, 106, 172, 42, 21, 4, 4, 182, 0, 106, 172, 21, 5, 153, 0, 13, 42, 21, 4]
abbrev dktX9_cell_4 : List UInt8 := dkwX9_cell_4 ++ dktX9_cell_5
def dkwX9_cell_3 : List UInt8 := [170, 0, 0, 0, 92, 0, 0, 0, 0, 0, 0, 0, 3, 0, 0, 0, 29, 0, 0, 0, 37, 0, 0, 0, 45, 0, 0, 0, 62]
abbrev dktX9_cell_3 : List UInt8 := dkwX9_cell_3 ++ dktX9_cell_4
def dkwX9_cell_2 : List UInt8 := [21, 4, 3, 182, 0, 106, 7, 160, 0, 7, 4, 167, 0, 4, 3, 54, 5, 29]
abbrev dktX9_cell_2 : List UInt8 := dkwX9_cell_2 ++ dktX9_cell_3
def dkwX9_cell_1 : List UInt8 := [153, 0, 5, 3, 172, 42, 27, 28, 182, 0, 102, 54, 4, 42, 21, 4, 182, 0, 109, 154, 0, 14, 42]
abbrev dktX9_cell_1 : List UInt8 := dkwX9_cell_1 ++ dktX9_cell_2
def dkwX9_cell_0 : List UInt8 := [42, 3, 181, 0, 83, 42, 27, 28, 182, 0, 191, 154, 0, 14, 42, 29, 3, 7, 5, 182, 0, 201]
abbrev dktX9_cell_0 : List UInt8 := dkwX9_cell_0 ++ dktX9_cell_1
theorem dksX9_cell_0 : cX9_cell.data.toList.drop 0 = dktX9_cell_0 := by decide +kernel
theorem dksX9_cell_1 : cX9_cell.data.toList.drop 22 = dktX9_cell_1 := dk_seg dksX9_cell_0 22 rfl rfl
theorem dksX9_cell_2 : cX9_cell.data.toList.drop 45 = dktX9_cell_2 := dk_seg dksX9_cell_1 23 rfl rfl
theorem dksX9_cell_3 : cX9_cell.data.toList.drop 63 = dktX9_cell_3 := dk_seg dksX9_cell_2 18 rfl rfl
theorem dksX9_cell_4 : cX9_cell.data.toList.drop 92 = dktX9_cell_4 := dk_seg dksX9_cell_3 29 rfl rfl
theorem dksX9_cell_5 : cX9_cell.data.toList.drop 116 = dktX9_cell_5 := dk_seg dksX9_cell_4 24 rfl rfl
theorem dksX9_cell_6 : cX9_cell.data.toList.drop 139 = dktX9_cell_6 := dk_seg dksX9_cell_5 23 rfl rfl
theorem dksX9_cell_7 : cX9_cell.data.toList.drop 162 = dktX9_cell_7 := dk_seg dksX9_cell_6 23 rfl rfl
theorem dX9_cell_0 : decode cX9_cell 0 = .ok (.aload_n 0, 1) := dk_42 (dk_at dksX9_cell_0 0 rfl rfl)
theorem dX9_cell_1 : decode cX9_cell 1 = .ok (.iconst 0, 1) := dk_3 (dk_at dksX9_cell_0 1 rfl rfl)
theorem dX9_cell_2 : decode cX9_cell 2 = .ok (.putfield 83, 3) := dk_181 0 83 (dk_at dksX9_cell_0 2 rfl rfl)
theorem dX9_cell_5 : decode cX9_cell 5 = .ok (.aload_n 0, 1) := dk_42 (dk_at dksX9_cell_0 5 rfl rfl)
theorem dX9_cell_6 : decode cX9_cell 6 = .ok (.iload_n 1, 1) := dk_27 (dk_at dksX9_cell_0 6 rfl rfl)
theorem dX9_cell_7 : decode cX9_cell 7 = .ok (.iload_n 2, 1) := dk_28 (dk_at dksX9_cell_0 7 rfl rfl)
theorem dX9_cell_8 : decode cX9_cell 8 = .ok (.invokevirtual 191, 3) := dk_182 0 191 (dk_at dksX9_cell_0 8 rfl rfl)
theorem dX9_cell_11 : decode cX9_cell 11 = .ok (.ifCond .ne 14, 3) := dk_154 0 14 (dk_at dksX9_cell_0 11 rfl rfl)
theorem dX9_cell_14 : decode cX9_cell 14 = .ok (.aload_n 0, 1) := dk_42 (dk_at dksX9_cell_0 14 rfl rfl)
theorem dX9_cell_15 : decode cX9_cell 15 = .ok (.iload_n 3, 1) := dk_29 (dk_at dksX9_cell_0 15 rfl rfl)
theorem dX9_cell_16 : decode cX9_cell 16 = .ok (.iconst 0, 1) := dk_3 (dk_at dksX9_cell_0 16 rfl rfl)
theorem dX9_cell_17 : decode cX9_cell 17 = .ok (.iconst 4, 1) := dk_7 (dk_at dksX9_cell_0 17 rfl rfl)
theorem dX9_cell_18 : decode cX9_cell 18 = .ok (.iconst 2, 1) := dk_5 (dk_at dksX9_cell_0 18 rfl rfl)
theorem dX9_cell_19 : decode cX9_cell 19 = .ok (.invokevirtual 201, 3) := dk_182 0 201 (dk_at dksX9_cell_0 19 rfl rfl)
theorem dX9_cell_22 : decode cX9_cell 22 = .ok (.ifCond .eq 5, 3) := dk_153 0 5 (dk_at dksX9_cell_1 0 rfl rfl)
theorem dX9_cell_25 : decode cX9_cell 25 = .ok (.iconst 0, 1) := dk_3 (dk_at dksX9_cell_1 3 rfl rfl)
theorem dX9_cell_26 : decode cX9_cell 26 = .ok (.ireturn, 1) := dk_172 (dk_at dksX9_cell_1 4 rfl rfl)
theorem dX9_cell_27 : decode cX9_cell 27 = .ok (.aload_n 0, 1) := dk_42 (dk_at dksX9_cell_1 5 rfl rfl)
theorem dX9_cell_28 : decode cX9_cell 28 = .ok (.iload_n 1, 1) := dk_27 (dk_at dksX9_cell_1 6 rfl rfl)
theorem dX9_cell_29 : decode cX9_cell 29 = .ok (.iload_n 2, 1) := dk_28 (dk_at dksX9_cell_1 7 rfl rfl)
theorem dX9_cell_30 : decode cX9_cell 30 = .ok (.invokevirtual 102, 3) := dk_182 0 102 (dk_at dksX9_cell_1 8 rfl rfl)
theorem dX9_cell_33 : decode cX9_cell 33 = .ok (.istore 4, 2) := dk_54 4 (dk_at dksX9_cell_1 11 rfl rfl)
theorem dX9_cell_35 : decode cX9_cell 35 = .ok (.aload_n 0, 1) := dk_42 (dk_at dksX9_cell_1 13 rfl rfl)
theorem dX9_cell_36 : decode cX9_cell 36 = .ok (.iload 4, 2) := dk_21 4 (dk_at dksX9_cell_1 14 rfl rfl)
theorem dX9_cell_38 : decode cX9_cell 38 = .ok (.invokevirtual 109, 3) := dk_182 0 109 (dk_at dksX9_cell_1 16 rfl rfl)
theorem dX9_cell_41 : decode cX9_cell 41 = .ok (.ifCond .ne 14, 3) := dk_154 0 14 (dk_at dksX9_cell_1 19 rfl rfl)
theorem dX9_cell_44 : decode cX9_cell 44 = .ok (.aload_n 0, 1) := dk_42 (dk_at dksX9_cell_1 22 rfl rfl)
theorem dX9_cell_45 : decode cX9_cell 45 = .ok (.iload 4, 2) := dk_21 4 (dk_at dksX9_cell_2 0 rfl rfl)
theorem dX9_cell_47 : decode cX9_cell 47 = .ok (.iconst 0, 1) := dk_3 (dk_at dksX9_cell_2 2 rfl rfl)
theorem dX9_cell_48 : decode cX9_cell 48 = .ok (.invokevirtual 106, 3) := dk_182 0 106 (dk_at dksX9_cell_2 3 rfl rfl)
theorem dX9_cell_51 : decode cX9_cell 51 = .ok (.iconst 4, 1) := dk_7 (dk_at dksX9_cell_2 6 rfl rfl)
theorem dX9_cell_52 : decode cX9_cell 52 = .ok (.if_icmp .ne 7, 3) := dk_160 0 7 (dk_at dksX9_cell_2 7 rfl rfl)
theorem dX9_cell_55 : decode cX9_cell 55 = .ok (.iconst 1, 1) := dk_4 (dk_at dksX9_cell_2 10 rfl rfl)
theorem dX9_cell_56 : decode cX9_cell 56 = .ok (.goto 4, 3) := dk_167 0 4 (dk_at dksX9_cell_2 11 rfl rfl)
theorem dX9_cell_59 : decode cX9_cell 59 = .ok (.iconst 0, 1) := dk_3 (dk_at dksX9_cell_2 14 rfl rfl)
theorem dX9_cell_60 : decode cX9_cell 60 = .ok (.istore 5, 2) := dk_54 5 (dk_at dksX9_cell_2 15 rfl rfl)
theorem dX9_cell_62 : decode cX9_cell 62 = .ok (.iload_n 3, 1) := dk_29 (dk_at dksX9_cell_2 17 rfl rfl)
theorem dX9_cell_63 : decode cX9_cell 63 = .ok (.tableswitch 92 0 3 #[29, 37, 45, 62], 29) := by decide +kernel
theorem dX9_cell_92 : decode cX9_cell 92 = .ok (.aload_n 0, 1) := dk_42 (dk_at dksX9_cell_4 0 rfl rfl)
theorem dX9_cell_93 : decode cX9_cell 93 = .ok (.iload 4, 2) := dk_21 4 (dk_at dksX9_cell_4 1 rfl rfl)
theorem dX9_cell_95 : decode cX9_cell 95 = .ok (.iconst 0, 1) := dk_3 (dk_at dksX9_cell_4 3 rfl rfl)
theorem dX9_cell_96 : decode cX9_cell 96 = .ok (.invokevirtual 106, 3) := dk_182 0 106 (dk_at dksX9_cell_4 4 rfl rfl)
theorem dX9_cell_99 : decode cX9_cell 99 = .ok (.ireturn, 1) := dk_172 (dk_at dksX9_cell_4 7 rfl rfl)
theorem dX9_cell_100 : decode cX9_cell 100 = .ok (.aload_n 0, 1) := dk_42 (dk_at dksX9_cell_4 8 rfl rfl)
theorem dX9_cell_101 : decode cX9_cell 101 = .ok (.iload 4, 2) := dk_21 4 (dk_at dksX9_cell_4 9 rfl rfl)
theorem dX9_cell_103 : decode cX9_cell 103 = .ok (.iconst 1, 1) := dk_4 (dk_at dksX9_cell_4 11 rfl rfl)
theorem dX9_cell_104 : decode cX9_cell 104 = .ok (.invokevirtual 106, 3) := dk_182 0 106 (dk_at dksX9_cell_4 12 rfl rfl)
theorem dX9_cell_107 : decode cX9_cell 107 = .ok (.ireturn, 1) := dk_172 (dk_at dksX9_cell_4 15 rfl rfl)
theorem dX9_cell_108 : decode cX9_cell 108 = .ok (.iload 5, 2) := dk_21 5 (dk_at dksX9_cell_4 16 rfl rfl)
theorem dX9_cell_110 : decode cX9_cell 110 = .ok (.ifCond .eq 13, 3) := dk_153 0 13 (dk_at dksX9_cell_4 18 rfl rfl)
theorem dX9_cell_113 : decode cX9_cell 113 = .ok (.aload_n 0, 1) := dk_42 (dk_at dksX9_cell_4 21 rfl rfl)
theorem dX9_cell_114 : decode cX9_cell 114 = .ok (.iload 4, 2) := dk_21 4 (dk_at dksX9_cell_4 22 rfl rfl)
theorem dX9_cell_116 : decode cX9_cell 116 = .ok (.iconst 2, 1) := dk_5 (dk_at dksX9_cell_5 0 rfl rfl)
theorem dX9_cell_117 : decode cX9_cell 117 = .ok (.invokevirtual 106, 3) := dk_182 0 106 (dk_at dksX9_cell_5 1 rfl rfl)
theorem dX9_cell_120 : decode cX9_cell 120 = .ok (.goto 4, 3) := dk_167 0 4 (dk_at dksX9_cell_5 4 rfl rfl)
theorem dX9_cell_123 : decode cX9_cell 123 = .ok (.iconst (-1), 1) := dk_2 (dk_at dksX9_cell_5 7 rfl rfl)
theorem dX9_cell_124 : decode cX9_cell 124 = .ok (.ireturn, 1) := dk_172 (dk_at dksX9_cell_5 8 rfl rfl)
theorem dX9_cell_125 : decode cX9_cell 125 = .ok (.iload 5, 2) := dk_21 5 (dk_at dksX9_cell_5 9 rfl rfl)
theorem dX9_cell_127 : decode cX9_cell 127 = .ok (.ifCond .eq 26, 3) := dk_153 0 26 (dk_at dksX9_cell_5 11 rfl rfl)
theorem dX9_cell_130 : decode cX9_cell 130 = .ok (.aload_n 0, 1) := dk_42 (dk_at dksX9_cell_5 14 rfl rfl)
theorem dX9_cell_131 : decode cX9_cell 131 = .ok (.iload 4, 2) := dk_21 4 (dk_at dksX9_cell_5 15 rfl rfl)
theorem dX9_cell_133 : decode cX9_cell 133 = .ok (.aload_n 0, 1) := dk_42 (dk_at dksX9_cell_5 17 rfl rfl)
theorem dX9_cell_134 : decode cX9_cell 134 = .ok (.iload 4, 2) := dk_21 4 (dk_at dksX9_cell_5 18 rfl rfl)
theorem dX9_cell_136 : decode cX9_cell 136 = .ok (.invokevirtual 109, 3) := dk_182 0 109 (dk_at dksX9_cell_5 20 rfl rfl)
theorem dX9_cell_139 : decode cX9_cell 139 = .ok (.ifCond .eq 7, 3) := dk_153 0 7 (dk_at dksX9_cell_6 0 rfl rfl)
theorem dX9_cell_142 : decode cX9_cell 142 = .ok (.iconst 2, 1) := dk_5 (dk_at dksX9_cell_6 3 rfl rfl)
theorem dX9_cell_143 : decode cX9_cell 143 = .ok (.goto 4, 3) := dk_167 0 4 (dk_at dksX9_cell_6 4 rfl rfl)
theorem dX9_cell_146 : decode cX9_cell 146 = .ok (.iconst 4, 1) := dk_7 (dk_at dksX9_cell_6 7 rfl rfl)
theorem dX9_cell_147 : decode cX9_cell 147 = .ok (.invokevirtual 205, 3) := dk_182 0 205 (dk_at dksX9_cell_6 8 rfl rfl)
theorem dX9_cell_150 : decode cX9_cell 150 = .ok (.goto 4, 3) := dk_167 0 4 (dk_at dksX9_cell_6 11 rfl rfl)
theorem dX9_cell_153 : decode cX9_cell 153 = .ok (.iconst (-1), 1) := dk_2 (dk_at dksX9_cell_6 14 rfl rfl)
theorem dX9_cell_154 : decode cX9_cell 154 = .ok (.ireturn, 1) := dk_172 (dk_at dksX9_cell_6 15 rfl rfl)
theorem dX9_cell_155 : decode cX9_cell 155 = .ok (.aload_n 0, 1) := dk_42 (dk_at dksX9_cell_6 16 rfl rfl)
theorem dX9_cell_156 : decode cX9_cell 156 = .ok (.invokevirtual 149, 3) := dk_182 0 149 (dk_at dksX9_cell_6 17 rfl rfl)
theorem dX9_cell_159 : decode cX9_cell 159 = .ok (.aload_n 0, 1) := dk_42 (dk_at dksX9_cell_6 20 rfl rfl)
theorem dX9_cell_160 : decode cX9_cell 160 = .ok (.iload 4, 2) := dk_21 4 (dk_at dksX9_cell_6 21 rfl rfl)
theorem dX9_cell_162 : decode cX9_cell 162 = .ok (.invokevirtual 164, 3) := dk_182 0 164 (dk_at dksX9_cell_7 0 rfl rfl)
theorem dX9_cell_165 : decode cX9_cell 165 = .ok (.ireturn, 1) := dk_172 (dk_at dksX9_cell_7 3 rfl rfl)
abbrev cX9_mirror : ByteArray := prog_15_method_80_code
def yX9_mirror : MethodName := ⟨RX9, "mirror", "(II)I"⟩
def dkwX9_mirror_6 : List UInt8 := [42, 29, 182, 0, 164, 184, 1, 71, 172]
abbrev dktX9_mirror_6 : List UInt8 := dkwX9_mirror_6 ++ []
def dkwX9_mirror_5 : List UInt8 := [29, 7, 182, 0, 106, 172, 42, 29, 182, 0, 184, 154, 0, 7, 4, 167, 0, 4, 3, 172, 42, 182, 0, 149]
abbrev dktX9_mirror_5 : List UInt8 := dkwX9_mirror_5 ++ dktX9_mirror_6
def dkwX9_mirror_4 : List UInt8 := [42, 29, 6, 182, 0, 106, 172, 42, 29, 3, 182, 0, 106, 6, 160, 0, 7, 4, 167, 0, 4, 3, 172, 42]
abbrev dktX9_mirror_4 : List UInt8 := dkwX9_mirror_4 ++ dktX9_mirror_5
def dkwX9_mirror_3 : List UInt8 := [29, 16, 10, 112, 172, 29, 16, 10, 108, 172, 42, 29, 4, 182, 0, 106, 172, 42, 29, 5, 182, 0, 106, 172]
abbrev dktX9_mirror_3 : List UInt8 := dkwX9_mirror_3 ++ dktX9_mirror_4
def dkwX9_mirror_2 : List UInt8 := [170, 0, 0, 0, 0, 0, 0, 116, 0, 0, 0, 0, 0, 0, 0, 7, 0, 0, 0, 48, 0, 0, 0, 53, 0, 0, 0, 58, 0, 0, 0, 65, 0, 0, 0, 72, 0, 0, 0, 79, 0, 0, 0, 95, 0, 0, 0, 102]
abbrev dktX9_mirror_2 : List UInt8 := dkwX9_mirror_2 ++ dktX9_mirror_3
def dkwX9_mirror_1 : List UInt8 := [3, 16, 8, 5, 182, 0, 201, 153, 0, 5, 3, 172, 42, 27, 5, 182, 0, 120, 62, 28]
abbrev dktX9_mirror_1 : List UInt8 := dkwX9_mirror_1 ++ dktX9_mirror_2
def dkwX9_mirror_0 : List UInt8 := [42, 3, 181, 0, 83, 42, 27, 3, 42, 5, 182, 0, 161, 4, 100, 4, 182, 0, 201, 154, 0, 15, 42, 28]
abbrev dktX9_mirror_0 : List UInt8 := dkwX9_mirror_0 ++ dktX9_mirror_1
theorem dksX9_mirror_0 : cX9_mirror.data.toList.drop 0 = dktX9_mirror_0 := by decide +kernel
theorem dksX9_mirror_1 : cX9_mirror.data.toList.drop 24 = dktX9_mirror_1 := dk_seg dksX9_mirror_0 24 rfl rfl
theorem dksX9_mirror_2 : cX9_mirror.data.toList.drop 44 = dktX9_mirror_2 := dk_seg dksX9_mirror_1 20 rfl rfl
theorem dksX9_mirror_3 : cX9_mirror.data.toList.drop 92 = dktX9_mirror_3 := dk_seg dksX9_mirror_2 48 rfl rfl
theorem dksX9_mirror_4 : cX9_mirror.data.toList.drop 116 = dktX9_mirror_4 := dk_seg dksX9_mirror_3 24 rfl rfl
theorem dksX9_mirror_5 : cX9_mirror.data.toList.drop 140 = dktX9_mirror_5 := dk_seg dksX9_mirror_4 24 rfl rfl
theorem dksX9_mirror_6 : cX9_mirror.data.toList.drop 164 = dktX9_mirror_6 := dk_seg dksX9_mirror_5 24 rfl rfl
theorem dX9_mirror_0 : decode cX9_mirror 0 = .ok (.aload_n 0, 1) := dk_42 (dk_at dksX9_mirror_0 0 rfl rfl)
theorem dX9_mirror_1 : decode cX9_mirror 1 = .ok (.iconst 0, 1) := dk_3 (dk_at dksX9_mirror_0 1 rfl rfl)
theorem dX9_mirror_2 : decode cX9_mirror 2 = .ok (.putfield 83, 3) := dk_181 0 83 (dk_at dksX9_mirror_0 2 rfl rfl)
theorem dX9_mirror_5 : decode cX9_mirror 5 = .ok (.aload_n 0, 1) := dk_42 (dk_at dksX9_mirror_0 5 rfl rfl)
theorem dX9_mirror_6 : decode cX9_mirror 6 = .ok (.iload_n 1, 1) := dk_27 (dk_at dksX9_mirror_0 6 rfl rfl)
theorem dX9_mirror_7 : decode cX9_mirror 7 = .ok (.iconst 0, 1) := dk_3 (dk_at dksX9_mirror_0 7 rfl rfl)
theorem dX9_mirror_8 : decode cX9_mirror 8 = .ok (.aload_n 0, 1) := dk_42 (dk_at dksX9_mirror_0 8 rfl rfl)
theorem dX9_mirror_9 : decode cX9_mirror 9 = .ok (.iconst 2, 1) := dk_5 (dk_at dksX9_mirror_0 9 rfl rfl)
theorem dX9_mirror_10 : decode cX9_mirror 10 = .ok (.invokevirtual 161, 3) := dk_182 0 161 (dk_at dksX9_mirror_0 10 rfl rfl)
theorem dX9_mirror_13 : decode cX9_mirror 13 = .ok (.iconst 1, 1) := dk_4 (dk_at dksX9_mirror_0 13 rfl rfl)
theorem dX9_mirror_14 : decode cX9_mirror 14 = .ok (.isub, 1) := dk_100 (dk_at dksX9_mirror_0 14 rfl rfl)
theorem dX9_mirror_15 : decode cX9_mirror 15 = .ok (.iconst 1, 1) := dk_4 (dk_at dksX9_mirror_0 15 rfl rfl)
theorem dX9_mirror_16 : decode cX9_mirror 16 = .ok (.invokevirtual 201, 3) := dk_182 0 201 (dk_at dksX9_mirror_0 16 rfl rfl)
theorem dX9_mirror_19 : decode cX9_mirror 19 = .ok (.ifCond .ne 15, 3) := dk_154 0 15 (dk_at dksX9_mirror_0 19 rfl rfl)
theorem dX9_mirror_22 : decode cX9_mirror 22 = .ok (.aload_n 0, 1) := dk_42 (dk_at dksX9_mirror_0 22 rfl rfl)
theorem dX9_mirror_23 : decode cX9_mirror 23 = .ok (.iload_n 2, 1) := dk_28 (dk_at dksX9_mirror_0 23 rfl rfl)
theorem dX9_mirror_24 : decode cX9_mirror 24 = .ok (.iconst 0, 1) := dk_3 (dk_at dksX9_mirror_1 0 rfl rfl)
theorem dX9_mirror_25 : decode cX9_mirror 25 = .ok (.bipush 8, 2) := dk_16 8 (dk_at dksX9_mirror_1 1 rfl rfl)
theorem dX9_mirror_27 : decode cX9_mirror 27 = .ok (.iconst 2, 1) := dk_5 (dk_at dksX9_mirror_1 3 rfl rfl)
theorem dX9_mirror_28 : decode cX9_mirror 28 = .ok (.invokevirtual 201, 3) := dk_182 0 201 (dk_at dksX9_mirror_1 4 rfl rfl)
theorem dX9_mirror_31 : decode cX9_mirror 31 = .ok (.ifCond .eq 5, 3) := dk_153 0 5 (dk_at dksX9_mirror_1 7 rfl rfl)
theorem dX9_mirror_34 : decode cX9_mirror 34 = .ok (.iconst 0, 1) := dk_3 (dk_at dksX9_mirror_1 10 rfl rfl)
theorem dX9_mirror_35 : decode cX9_mirror 35 = .ok (.ireturn, 1) := dk_172 (dk_at dksX9_mirror_1 11 rfl rfl)
theorem dX9_mirror_36 : decode cX9_mirror 36 = .ok (.aload_n 0, 1) := dk_42 (dk_at dksX9_mirror_1 12 rfl rfl)
theorem dX9_mirror_37 : decode cX9_mirror 37 = .ok (.iload_n 1, 1) := dk_27 (dk_at dksX9_mirror_1 13 rfl rfl)
theorem dX9_mirror_38 : decode cX9_mirror 38 = .ok (.iconst 2, 1) := dk_5 (dk_at dksX9_mirror_1 14 rfl rfl)
theorem dX9_mirror_39 : decode cX9_mirror 39 = .ok (.invokevirtual 120, 3) := dk_182 0 120 (dk_at dksX9_mirror_1 15 rfl rfl)
theorem dX9_mirror_42 : decode cX9_mirror 42 = .ok (.istore_n 3, 1) := dk_62 (dk_at dksX9_mirror_1 18 rfl rfl)
theorem dX9_mirror_43 : decode cX9_mirror 43 = .ok (.iload_n 2, 1) := dk_28 (dk_at dksX9_mirror_1 19 rfl rfl)
theorem dX9_mirror_44 : decode cX9_mirror 44 = .ok (.tableswitch 116 0 7 #[48, 53, 58, 65, 72, 79, 95, 102], 48) := by decide +kernel
theorem dX9_mirror_92 : decode cX9_mirror 92 = .ok (.iload_n 3, 1) := dk_29 (dk_at dksX9_mirror_3 0 rfl rfl)
theorem dX9_mirror_93 : decode cX9_mirror 93 = .ok (.bipush 10, 2) := dk_16 10 (dk_at dksX9_mirror_3 1 rfl rfl)
theorem dX9_mirror_95 : decode cX9_mirror 95 = .ok (.irem, 1) := dk_112 (dk_at dksX9_mirror_3 3 rfl rfl)
theorem dX9_mirror_96 : decode cX9_mirror 96 = .ok (.ireturn, 1) := dk_172 (dk_at dksX9_mirror_3 4 rfl rfl)
theorem dX9_mirror_97 : decode cX9_mirror 97 = .ok (.iload_n 3, 1) := dk_29 (dk_at dksX9_mirror_3 5 rfl rfl)
theorem dX9_mirror_98 : decode cX9_mirror 98 = .ok (.bipush 10, 2) := dk_16 10 (dk_at dksX9_mirror_3 6 rfl rfl)
theorem dX9_mirror_100 : decode cX9_mirror 100 = .ok (.idiv, 1) := dk_108 (dk_at dksX9_mirror_3 8 rfl rfl)
theorem dX9_mirror_101 : decode cX9_mirror 101 = .ok (.ireturn, 1) := dk_172 (dk_at dksX9_mirror_3 9 rfl rfl)
theorem dX9_mirror_102 : decode cX9_mirror 102 = .ok (.aload_n 0, 1) := dk_42 (dk_at dksX9_mirror_3 10 rfl rfl)
theorem dX9_mirror_103 : decode cX9_mirror 103 = .ok (.iload_n 3, 1) := dk_29 (dk_at dksX9_mirror_3 11 rfl rfl)
theorem dX9_mirror_104 : decode cX9_mirror 104 = .ok (.iconst 1, 1) := dk_4 (dk_at dksX9_mirror_3 12 rfl rfl)
theorem dX9_mirror_105 : decode cX9_mirror 105 = .ok (.invokevirtual 106, 3) := dk_182 0 106 (dk_at dksX9_mirror_3 13 rfl rfl)
theorem dX9_mirror_108 : decode cX9_mirror 108 = .ok (.ireturn, 1) := dk_172 (dk_at dksX9_mirror_3 16 rfl rfl)
theorem dX9_mirror_109 : decode cX9_mirror 109 = .ok (.aload_n 0, 1) := dk_42 (dk_at dksX9_mirror_3 17 rfl rfl)
theorem dX9_mirror_110 : decode cX9_mirror 110 = .ok (.iload_n 3, 1) := dk_29 (dk_at dksX9_mirror_3 18 rfl rfl)
theorem dX9_mirror_111 : decode cX9_mirror 111 = .ok (.iconst 2, 1) := dk_5 (dk_at dksX9_mirror_3 19 rfl rfl)
theorem dX9_mirror_112 : decode cX9_mirror 112 = .ok (.invokevirtual 106, 3) := dk_182 0 106 (dk_at dksX9_mirror_3 20 rfl rfl)
theorem dX9_mirror_115 : decode cX9_mirror 115 = .ok (.ireturn, 1) := dk_172 (dk_at dksX9_mirror_3 23 rfl rfl)
theorem dX9_mirror_116 : decode cX9_mirror 116 = .ok (.aload_n 0, 1) := dk_42 (dk_at dksX9_mirror_4 0 rfl rfl)
theorem dX9_mirror_117 : decode cX9_mirror 117 = .ok (.iload_n 3, 1) := dk_29 (dk_at dksX9_mirror_4 1 rfl rfl)
theorem dX9_mirror_118 : decode cX9_mirror 118 = .ok (.iconst 3, 1) := dk_6 (dk_at dksX9_mirror_4 2 rfl rfl)
theorem dX9_mirror_119 : decode cX9_mirror 119 = .ok (.invokevirtual 106, 3) := dk_182 0 106 (dk_at dksX9_mirror_4 3 rfl rfl)
theorem dX9_mirror_122 : decode cX9_mirror 122 = .ok (.ireturn, 1) := dk_172 (dk_at dksX9_mirror_4 6 rfl rfl)
theorem dX9_mirror_123 : decode cX9_mirror 123 = .ok (.aload_n 0, 1) := dk_42 (dk_at dksX9_mirror_4 7 rfl rfl)
theorem dX9_mirror_124 : decode cX9_mirror 124 = .ok (.iload_n 3, 1) := dk_29 (dk_at dksX9_mirror_4 8 rfl rfl)
theorem dX9_mirror_125 : decode cX9_mirror 125 = .ok (.iconst 0, 1) := dk_3 (dk_at dksX9_mirror_4 9 rfl rfl)
theorem dX9_mirror_126 : decode cX9_mirror 126 = .ok (.invokevirtual 106, 3) := dk_182 0 106 (dk_at dksX9_mirror_4 10 rfl rfl)
theorem dX9_mirror_129 : decode cX9_mirror 129 = .ok (.iconst 3, 1) := dk_6 (dk_at dksX9_mirror_4 13 rfl rfl)
theorem dX9_mirror_130 : decode cX9_mirror 130 = .ok (.if_icmp .ne 7, 3) := dk_160 0 7 (dk_at dksX9_mirror_4 14 rfl rfl)
theorem dX9_mirror_133 : decode cX9_mirror 133 = .ok (.iconst 1, 1) := dk_4 (dk_at dksX9_mirror_4 17 rfl rfl)
theorem dX9_mirror_134 : decode cX9_mirror 134 = .ok (.goto 4, 3) := dk_167 0 4 (dk_at dksX9_mirror_4 18 rfl rfl)
theorem dX9_mirror_137 : decode cX9_mirror 137 = .ok (.iconst 0, 1) := dk_3 (dk_at dksX9_mirror_4 21 rfl rfl)
theorem dX9_mirror_138 : decode cX9_mirror 138 = .ok (.ireturn, 1) := dk_172 (dk_at dksX9_mirror_4 22 rfl rfl)
theorem dX9_mirror_139 : decode cX9_mirror 139 = .ok (.aload_n 0, 1) := dk_42 (dk_at dksX9_mirror_4 23 rfl rfl)
theorem dX9_mirror_140 : decode cX9_mirror 140 = .ok (.iload_n 3, 1) := dk_29 (dk_at dksX9_mirror_5 0 rfl rfl)
theorem dX9_mirror_141 : decode cX9_mirror 141 = .ok (.iconst 4, 1) := dk_7 (dk_at dksX9_mirror_5 1 rfl rfl)
theorem dX9_mirror_142 : decode cX9_mirror 142 = .ok (.invokevirtual 106, 3) := dk_182 0 106 (dk_at dksX9_mirror_5 2 rfl rfl)
theorem dX9_mirror_145 : decode cX9_mirror 145 = .ok (.ireturn, 1) := dk_172 (dk_at dksX9_mirror_5 5 rfl rfl)
theorem dX9_mirror_146 : decode cX9_mirror 146 = .ok (.aload_n 0, 1) := dk_42 (dk_at dksX9_mirror_5 6 rfl rfl)
theorem dX9_mirror_147 : decode cX9_mirror 147 = .ok (.iload_n 3, 1) := dk_29 (dk_at dksX9_mirror_5 7 rfl rfl)
theorem dX9_mirror_148 : decode cX9_mirror 148 = .ok (.invokevirtual 184, 3) := dk_182 0 184 (dk_at dksX9_mirror_5 8 rfl rfl)
theorem dX9_mirror_151 : decode cX9_mirror 151 = .ok (.ifCond .ne 7, 3) := dk_154 0 7 (dk_at dksX9_mirror_5 11 rfl rfl)
theorem dX9_mirror_154 : decode cX9_mirror 154 = .ok (.iconst 1, 1) := dk_4 (dk_at dksX9_mirror_5 14 rfl rfl)
theorem dX9_mirror_155 : decode cX9_mirror 155 = .ok (.goto 4, 3) := dk_167 0 4 (dk_at dksX9_mirror_5 15 rfl rfl)
theorem dX9_mirror_158 : decode cX9_mirror 158 = .ok (.iconst 0, 1) := dk_3 (dk_at dksX9_mirror_5 18 rfl rfl)
theorem dX9_mirror_159 : decode cX9_mirror 159 = .ok (.ireturn, 1) := dk_172 (dk_at dksX9_mirror_5 19 rfl rfl)
theorem dX9_mirror_160 : decode cX9_mirror 160 = .ok (.aload_n 0, 1) := dk_42 (dk_at dksX9_mirror_5 20 rfl rfl)
theorem dX9_mirror_161 : decode cX9_mirror 161 = .ok (.invokevirtual 149, 3) := dk_182 0 149 (dk_at dksX9_mirror_5 21 rfl rfl)
theorem dX9_mirror_164 : decode cX9_mirror 164 = .ok (.aload_n 0, 1) := dk_42 (dk_at dksX9_mirror_6 0 rfl rfl)
theorem dX9_mirror_165 : decode cX9_mirror 165 = .ok (.iload_n 3, 1) := dk_29 (dk_at dksX9_mirror_6 1 rfl rfl)
theorem dX9_mirror_166 : decode cX9_mirror 166 = .ok (.invokevirtual 164, 3) := dk_182 0 164 (dk_at dksX9_mirror_6 2 rfl rfl)
theorem dX9_mirror_169 : decode cX9_mirror 169 = .ok (.invokestatic 327, 3) := dk_184 1 71 (dk_at dksX9_mirror_6 5 rfl rfl)
theorem dX9_mirror_172 : decode cX9_mirror 172 = .ok (.ireturn, 1) := dk_172 (dk_at dksX9_mirror_6 8 rfl rfl)
abbrev cX9_ones : ByteArray := prog_15_method_81_code
def yX9_ones : MethodName := ⟨RX9, "ones", "(I)I"⟩
def dkwX9_ones_0 : List UInt8 := [3, 60, 26, 61, 28, 153, 0, 15, 132, 1, 1, 28, 28, 4, 100, 126, 61, 167, 255, 243, 27, 172]
abbrev dktX9_ones_0 : List UInt8 := dkwX9_ones_0 ++ []
theorem dksX9_ones_0 : cX9_ones.data.toList.drop 0 = dktX9_ones_0 := by decide +kernel
theorem dX9_ones_0 : decode cX9_ones 0 = .ok (.iconst 0, 1) := dk_3 (dk_at dksX9_ones_0 0 rfl rfl)
theorem dX9_ones_1 : decode cX9_ones 1 = .ok (.istore_n 1, 1) := dk_60 (dk_at dksX9_ones_0 1 rfl rfl)
theorem dX9_ones_2 : decode cX9_ones 2 = .ok (.iload_n 0, 1) := dk_26 (dk_at dksX9_ones_0 2 rfl rfl)
theorem dX9_ones_3 : decode cX9_ones 3 = .ok (.istore_n 2, 1) := dk_61 (dk_at dksX9_ones_0 3 rfl rfl)
theorem dX9_ones_4 : decode cX9_ones 4 = .ok (.iload_n 2, 1) := dk_28 (dk_at dksX9_ones_0 4 rfl rfl)
theorem dX9_ones_5 : decode cX9_ones 5 = .ok (.ifCond .eq 15, 3) := dk_153 0 15 (dk_at dksX9_ones_0 5 rfl rfl)
theorem dX9_ones_8 : decode cX9_ones 8 = .ok (.iinc 1 1, 3) := dk_132 1 1 (dk_at dksX9_ones_0 8 rfl rfl)
theorem dX9_ones_11 : decode cX9_ones 11 = .ok (.iload_n 2, 1) := dk_28 (dk_at dksX9_ones_0 11 rfl rfl)
theorem dX9_ones_12 : decode cX9_ones 12 = .ok (.iload_n 2, 1) := dk_28 (dk_at dksX9_ones_0 12 rfl rfl)
theorem dX9_ones_13 : decode cX9_ones 13 = .ok (.iconst 1, 1) := dk_4 (dk_at dksX9_ones_0 13 rfl rfl)
theorem dX9_ones_14 : decode cX9_ones 14 = .ok (.isub, 1) := dk_100 (dk_at dksX9_ones_0 14 rfl rfl)
theorem dX9_ones_15 : decode cX9_ones 15 = .ok (.iand, 1) := dk_126 (dk_at dksX9_ones_0 15 rfl rfl)
theorem dX9_ones_16 : decode cX9_ones 16 = .ok (.istore_n 2, 1) := dk_61 (dk_at dksX9_ones_0 16 rfl rfl)
theorem dX9_ones_17 : decode cX9_ones 17 = .ok (.goto (-13), 3) := dk_167 255 243 (dk_at dksX9_ones_0 17 rfl rfl)
theorem dX9_ones_20 : decode cX9_ones 20 = .ok (.iload_n 1, 1) := dk_27 (dk_at dksX9_ones_0 20 rfl rfl)
theorem dX9_ones_21 : decode cX9_ones 21 = .ok (.ireturn, 1) := dk_172 (dk_at dksX9_ones_0 21 rfl rfl)
abbrev cX9_door : ByteArray := prog_15_method_83_code
def yX9_door : MethodName := ⟨RX9, "door", "(II)I"⟩
def dkwX9_door_5 : List UInt8 := [172]
abbrev dktX9_door_5 : List UInt8 := dkwX9_door_5 ++ []
def dkwX9_door_4 : List UInt8 := [159, 0, 7, 4, 167, 0, 4, 3, 172, 42, 182, 0, 167, 27, 122, 4, 126, 172, 42, 29, 8, 182, 0, 106]
abbrev dktX9_door_4 : List UInt8 := dkwX9_door_4 ++ dktX9_door_5
def dkwX9_door_3 : List UInt8 := [29, 16, 10, 112, 172, 29, 16, 10, 108, 172, 42, 29, 5, 182, 0, 106, 172, 42, 29, 8, 182, 0, 106, 2]
abbrev dktX9_door_3 : List UInt8 := dkwX9_door_3 ++ dktX9_door_4
def dkwX9_door_2 : List UInt8 := [170, 0, 0, 0, 0, 76, 0, 0, 0, 0, 0, 0, 0, 4, 0, 0, 0, 34, 0, 0, 0, 39, 0, 0, 0, 44, 0, 0, 0, 51, 0, 0, 0, 67]
abbrev dktX9_door_2 : List UInt8 := dkwX9_door_2 ++ dktX9_door_3
def dkwX9_door_1 : List UInt8 := [3, 172, 42, 27, 7, 182, 0, 120, 62, 28]
abbrev dktX9_door_1 : List UInt8 := dkwX9_door_1 ++ dktX9_door_2
def dkwX9_door_0 : List UInt8 := [42, 3, 181, 0, 83, 42, 27, 182, 1, 74, 154, 0, 14, 42, 28, 3, 8, 5, 182, 0, 201, 153, 0, 5]
abbrev dktX9_door_0 : List UInt8 := dkwX9_door_0 ++ dktX9_door_1
theorem dksX9_door_0 : cX9_door.data.toList.drop 0 = dktX9_door_0 := by decide +kernel
theorem dksX9_door_1 : cX9_door.data.toList.drop 24 = dktX9_door_1 := dk_seg dksX9_door_0 24 rfl rfl
theorem dksX9_door_2 : cX9_door.data.toList.drop 34 = dktX9_door_2 := dk_seg dksX9_door_1 10 rfl rfl
theorem dksX9_door_3 : cX9_door.data.toList.drop 68 = dktX9_door_3 := dk_seg dksX9_door_2 34 rfl rfl
theorem dksX9_door_4 : cX9_door.data.toList.drop 92 = dktX9_door_4 := dk_seg dksX9_door_3 24 rfl rfl
theorem dksX9_door_5 : cX9_door.data.toList.drop 116 = dktX9_door_5 := dk_seg dksX9_door_4 24 rfl rfl
theorem dX9_door_0 : decode cX9_door 0 = .ok (.aload_n 0, 1) := dk_42 (dk_at dksX9_door_0 0 rfl rfl)
theorem dX9_door_1 : decode cX9_door 1 = .ok (.iconst 0, 1) := dk_3 (dk_at dksX9_door_0 1 rfl rfl)
theorem dX9_door_2 : decode cX9_door 2 = .ok (.putfield 83, 3) := dk_181 0 83 (dk_at dksX9_door_0 2 rfl rfl)
theorem dX9_door_5 : decode cX9_door 5 = .ok (.aload_n 0, 1) := dk_42 (dk_at dksX9_door_0 5 rfl rfl)
theorem dX9_door_6 : decode cX9_door 6 = .ok (.iload_n 1, 1) := dk_27 (dk_at dksX9_door_0 6 rfl rfl)
theorem dX9_door_7 : decode cX9_door 7 = .ok (.invokevirtual 330, 3) := dk_182 1 74 (dk_at dksX9_door_0 7 rfl rfl)
theorem dX9_door_10 : decode cX9_door 10 = .ok (.ifCond .ne 14, 3) := dk_154 0 14 (dk_at dksX9_door_0 10 rfl rfl)
theorem dX9_door_13 : decode cX9_door 13 = .ok (.aload_n 0, 1) := dk_42 (dk_at dksX9_door_0 13 rfl rfl)
theorem dX9_door_14 : decode cX9_door 14 = .ok (.iload_n 2, 1) := dk_28 (dk_at dksX9_door_0 14 rfl rfl)
theorem dX9_door_15 : decode cX9_door 15 = .ok (.iconst 0, 1) := dk_3 (dk_at dksX9_door_0 15 rfl rfl)
theorem dX9_door_16 : decode cX9_door 16 = .ok (.iconst 5, 1) := dk_8 (dk_at dksX9_door_0 16 rfl rfl)
theorem dX9_door_17 : decode cX9_door 17 = .ok (.iconst 2, 1) := dk_5 (dk_at dksX9_door_0 17 rfl rfl)
theorem dX9_door_18 : decode cX9_door 18 = .ok (.invokevirtual 201, 3) := dk_182 0 201 (dk_at dksX9_door_0 18 rfl rfl)
theorem dX9_door_21 : decode cX9_door 21 = .ok (.ifCond .eq 5, 3) := dk_153 0 5 (dk_at dksX9_door_0 21 rfl rfl)
theorem dX9_door_24 : decode cX9_door 24 = .ok (.iconst 0, 1) := dk_3 (dk_at dksX9_door_1 0 rfl rfl)
theorem dX9_door_25 : decode cX9_door 25 = .ok (.ireturn, 1) := dk_172 (dk_at dksX9_door_1 1 rfl rfl)
theorem dX9_door_26 : decode cX9_door 26 = .ok (.aload_n 0, 1) := dk_42 (dk_at dksX9_door_1 2 rfl rfl)
theorem dX9_door_27 : decode cX9_door 27 = .ok (.iload_n 1, 1) := dk_27 (dk_at dksX9_door_1 3 rfl rfl)
theorem dX9_door_28 : decode cX9_door 28 = .ok (.iconst 4, 1) := dk_7 (dk_at dksX9_door_1 4 rfl rfl)
theorem dX9_door_29 : decode cX9_door 29 = .ok (.invokevirtual 120, 3) := dk_182 0 120 (dk_at dksX9_door_1 5 rfl rfl)
theorem dX9_door_32 : decode cX9_door 32 = .ok (.istore_n 3, 1) := dk_62 (dk_at dksX9_door_1 8 rfl rfl)
theorem dX9_door_33 : decode cX9_door 33 = .ok (.iload_n 2, 1) := dk_28 (dk_at dksX9_door_1 9 rfl rfl)
theorem dX9_door_34 : decode cX9_door 34 = .ok (.tableswitch 76 0 4 #[34, 39, 44, 51, 67], 34) := by decide +kernel
theorem dX9_door_68 : decode cX9_door 68 = .ok (.iload_n 3, 1) := dk_29 (dk_at dksX9_door_3 0 rfl rfl)
theorem dX9_door_69 : decode cX9_door 69 = .ok (.bipush 10, 2) := dk_16 10 (dk_at dksX9_door_3 1 rfl rfl)
theorem dX9_door_71 : decode cX9_door 71 = .ok (.irem, 1) := dk_112 (dk_at dksX9_door_3 3 rfl rfl)
theorem dX9_door_72 : decode cX9_door 72 = .ok (.ireturn, 1) := dk_172 (dk_at dksX9_door_3 4 rfl rfl)
theorem dX9_door_73 : decode cX9_door 73 = .ok (.iload_n 3, 1) := dk_29 (dk_at dksX9_door_3 5 rfl rfl)
theorem dX9_door_74 : decode cX9_door 74 = .ok (.bipush 10, 2) := dk_16 10 (dk_at dksX9_door_3 6 rfl rfl)
theorem dX9_door_76 : decode cX9_door 76 = .ok (.idiv, 1) := dk_108 (dk_at dksX9_door_3 8 rfl rfl)
theorem dX9_door_77 : decode cX9_door 77 = .ok (.ireturn, 1) := dk_172 (dk_at dksX9_door_3 9 rfl rfl)
theorem dX9_door_78 : decode cX9_door 78 = .ok (.aload_n 0, 1) := dk_42 (dk_at dksX9_door_3 10 rfl rfl)
theorem dX9_door_79 : decode cX9_door 79 = .ok (.iload_n 3, 1) := dk_29 (dk_at dksX9_door_3 11 rfl rfl)
theorem dX9_door_80 : decode cX9_door 80 = .ok (.iconst 2, 1) := dk_5 (dk_at dksX9_door_3 12 rfl rfl)
theorem dX9_door_81 : decode cX9_door 81 = .ok (.invokevirtual 106, 3) := dk_182 0 106 (dk_at dksX9_door_3 13 rfl rfl)
theorem dX9_door_84 : decode cX9_door 84 = .ok (.ireturn, 1) := dk_172 (dk_at dksX9_door_3 16 rfl rfl)
theorem dX9_door_85 : decode cX9_door 85 = .ok (.aload_n 0, 1) := dk_42 (dk_at dksX9_door_3 17 rfl rfl)
theorem dX9_door_86 : decode cX9_door 86 = .ok (.iload_n 3, 1) := dk_29 (dk_at dksX9_door_3 18 rfl rfl)
theorem dX9_door_87 : decode cX9_door 87 = .ok (.iconst 5, 1) := dk_8 (dk_at dksX9_door_3 19 rfl rfl)
theorem dX9_door_88 : decode cX9_door 88 = .ok (.invokevirtual 106, 3) := dk_182 0 106 (dk_at dksX9_door_3 20 rfl rfl)
theorem dX9_door_91 : decode cX9_door 91 = .ok (.iconst (-1), 1) := dk_2 (dk_at dksX9_door_3 23 rfl rfl)
theorem dX9_door_92 : decode cX9_door 92 = .ok (.if_icmp .eq 7, 3) := dk_159 0 7 (dk_at dksX9_door_4 0 rfl rfl)
theorem dX9_door_95 : decode cX9_door 95 = .ok (.iconst 1, 1) := dk_4 (dk_at dksX9_door_4 3 rfl rfl)
theorem dX9_door_96 : decode cX9_door 96 = .ok (.goto 4, 3) := dk_167 0 4 (dk_at dksX9_door_4 4 rfl rfl)
theorem dX9_door_99 : decode cX9_door 99 = .ok (.iconst 0, 1) := dk_3 (dk_at dksX9_door_4 7 rfl rfl)
theorem dX9_door_100 : decode cX9_door 100 = .ok (.ireturn, 1) := dk_172 (dk_at dksX9_door_4 8 rfl rfl)
theorem dX9_door_101 : decode cX9_door 101 = .ok (.aload_n 0, 1) := dk_42 (dk_at dksX9_door_4 9 rfl rfl)
theorem dX9_door_102 : decode cX9_door 102 = .ok (.invokevirtual 167, 3) := dk_182 0 167 (dk_at dksX9_door_4 10 rfl rfl)
theorem dX9_door_105 : decode cX9_door 105 = .ok (.iload_n 1, 1) := dk_27 (dk_at dksX9_door_4 13 rfl rfl)
theorem dX9_door_106 : decode cX9_door 106 = .ok (.ishr, 1) := dk_122 (dk_at dksX9_door_4 14 rfl rfl)
theorem dX9_door_107 : decode cX9_door 107 = .ok (.iconst 1, 1) := dk_4 (dk_at dksX9_door_4 15 rfl rfl)
theorem dX9_door_108 : decode cX9_door 108 = .ok (.iand, 1) := dk_126 (dk_at dksX9_door_4 16 rfl rfl)
theorem dX9_door_109 : decode cX9_door 109 = .ok (.ireturn, 1) := dk_172 (dk_at dksX9_door_4 17 rfl rfl)
theorem dX9_door_110 : decode cX9_door 110 = .ok (.aload_n 0, 1) := dk_42 (dk_at dksX9_door_4 18 rfl rfl)
theorem dX9_door_111 : decode cX9_door 111 = .ok (.iload_n 3, 1) := dk_29 (dk_at dksX9_door_4 19 rfl rfl)
theorem dX9_door_112 : decode cX9_door 112 = .ok (.iconst 5, 1) := dk_8 (dk_at dksX9_door_4 20 rfl rfl)
theorem dX9_door_113 : decode cX9_door 113 = .ok (.invokevirtual 106, 3) := dk_182 0 106 (dk_at dksX9_door_4 21 rfl rfl)
theorem dX9_door_116 : decode cX9_door 116 = .ok (.ireturn, 1) := dk_172 (dk_at dksX9_door_5 0 rfl rfl)
abbrev cX9_noDoor : ByteArray := prog_15_method_82_code
def yX9_noDoor : MethodName := ⟨RX9, "noDoor", "(I)Z"⟩
def dkwX9_noDoor_0 : List UInt8 := [42, 27, 3, 42, 7, 182, 0, 161, 4, 100, 4, 182, 0, 201, 172]
abbrev dktX9_noDoor_0 : List UInt8 := dkwX9_noDoor_0 ++ []
theorem dksX9_noDoor_0 : cX9_noDoor.data.toList.drop 0 = dktX9_noDoor_0 := by decide +kernel
theorem dX9_noDoor_0 : decode cX9_noDoor 0 = .ok (.aload_n 0, 1) := dk_42 (dk_at dksX9_noDoor_0 0 rfl rfl)
theorem dX9_noDoor_1 : decode cX9_noDoor 1 = .ok (.iload_n 1, 1) := dk_27 (dk_at dksX9_noDoor_0 1 rfl rfl)
theorem dX9_noDoor_2 : decode cX9_noDoor 2 = .ok (.iconst 0, 1) := dk_3 (dk_at dksX9_noDoor_0 2 rfl rfl)
theorem dX9_noDoor_3 : decode cX9_noDoor 3 = .ok (.aload_n 0, 1) := dk_42 (dk_at dksX9_noDoor_0 3 rfl rfl)
theorem dX9_noDoor_4 : decode cX9_noDoor 4 = .ok (.iconst 4, 1) := dk_7 (dk_at dksX9_noDoor_0 4 rfl rfl)
theorem dX9_noDoor_5 : decode cX9_noDoor 5 = .ok (.invokevirtual 161, 3) := dk_182 0 161 (dk_at dksX9_noDoor_0 5 rfl rfl)
theorem dX9_noDoor_8 : decode cX9_noDoor 8 = .ok (.iconst 1, 1) := dk_4 (dk_at dksX9_noDoor_0 8 rfl rfl)
theorem dX9_noDoor_9 : decode cX9_noDoor 9 = .ok (.isub, 1) := dk_100 (dk_at dksX9_noDoor_0 9 rfl rfl)
theorem dX9_noDoor_10 : decode cX9_noDoor 10 = .ok (.iconst 1, 1) := dk_4 (dk_at dksX9_noDoor_0 10 rfl rfl)
theorem dX9_noDoor_11 : decode cX9_noDoor 11 = .ok (.invokevirtual 201, 3) := dk_182 0 201 (dk_at dksX9_noDoor_0 11 rfl rfl)
theorem dX9_noDoor_14 : decode cX9_noDoor 14 = .ok (.ireturn, 1) := dk_172 (dk_at dksX9_noDoor_0 14 rfl rfl)
abbrev cX9_ray : ByteArray := prog_15_method_88_code
def yX9_ray : MethodName := ⟨RX9, "ray", "(I)I"⟩
def dkwX9_ray_3 : List UInt8 := [3, 182, 1, 88, 172, 42, 4, 182, 1, 88, 172, 42, 182, 1, 92, 172, 42, 182, 1, 95, 172]
abbrev dktX9_ray_3 : List UInt8 := dkwX9_ray_3 ++ []
def dkwX9_ray_2 : List UInt8 := [42, 180, 0, 152, 172, 42, 182, 1, 85, 172, 42, 180, 0, 155, 172, 42, 182, 0, 167, 184, 1, 71, 172, 42]
abbrev dktX9_ray_2 : List UInt8 := dkwX9_ray_2 ++ dktX9_ray_3
def dkwX9_ray_1 : List UInt8 := [170, 0, 0, 0, 0, 0, 0, 84, 0, 0, 0, 0, 0, 0, 0, 6, 0, 0, 0, 44, 0, 0, 0, 49, 0, 0, 0, 54, 0, 0, 0, 59, 0, 0, 0, 67, 0, 0, 0, 73, 0, 0, 0, 79]
abbrev dktX9_ray_1 : List UInt8 := dkwX9_ray_1 ++ dktX9_ray_2
def dkwX9_ray_0 : List UInt8 := [42, 3, 181, 0, 83, 42, 27, 3, 16, 7, 4, 182, 0, 201, 153, 0, 5, 3, 172, 42, 182, 1, 83, 27]
abbrev dktX9_ray_0 : List UInt8 := dkwX9_ray_0 ++ dktX9_ray_1
theorem dksX9_ray_0 : cX9_ray.data.toList.drop 0 = dktX9_ray_0 := by decide +kernel
theorem dksX9_ray_1 : cX9_ray.data.toList.drop 24 = dktX9_ray_1 := dk_seg dksX9_ray_0 24 rfl rfl
theorem dksX9_ray_2 : cX9_ray.data.toList.drop 68 = dktX9_ray_2 := dk_seg dksX9_ray_1 44 rfl rfl
theorem dksX9_ray_3 : cX9_ray.data.toList.drop 92 = dktX9_ray_3 := dk_seg dksX9_ray_2 24 rfl rfl
theorem dX9_ray_0 : decode cX9_ray 0 = .ok (.aload_n 0, 1) := dk_42 (dk_at dksX9_ray_0 0 rfl rfl)
theorem dX9_ray_1 : decode cX9_ray 1 = .ok (.iconst 0, 1) := dk_3 (dk_at dksX9_ray_0 1 rfl rfl)
theorem dX9_ray_2 : decode cX9_ray 2 = .ok (.putfield 83, 3) := dk_181 0 83 (dk_at dksX9_ray_0 2 rfl rfl)
theorem dX9_ray_5 : decode cX9_ray 5 = .ok (.aload_n 0, 1) := dk_42 (dk_at dksX9_ray_0 5 rfl rfl)
theorem dX9_ray_6 : decode cX9_ray 6 = .ok (.iload_n 1, 1) := dk_27 (dk_at dksX9_ray_0 6 rfl rfl)
theorem dX9_ray_7 : decode cX9_ray 7 = .ok (.iconst 0, 1) := dk_3 (dk_at dksX9_ray_0 7 rfl rfl)
theorem dX9_ray_8 : decode cX9_ray 8 = .ok (.bipush 7, 2) := dk_16 7 (dk_at dksX9_ray_0 8 rfl rfl)
theorem dX9_ray_10 : decode cX9_ray 10 = .ok (.iconst 1, 1) := dk_4 (dk_at dksX9_ray_0 10 rfl rfl)
theorem dX9_ray_11 : decode cX9_ray 11 = .ok (.invokevirtual 201, 3) := dk_182 0 201 (dk_at dksX9_ray_0 11 rfl rfl)
theorem dX9_ray_14 : decode cX9_ray 14 = .ok (.ifCond .eq 5, 3) := dk_153 0 5 (dk_at dksX9_ray_0 14 rfl rfl)
theorem dX9_ray_17 : decode cX9_ray 17 = .ok (.iconst 0, 1) := dk_3 (dk_at dksX9_ray_0 17 rfl rfl)
theorem dX9_ray_18 : decode cX9_ray 18 = .ok (.ireturn, 1) := dk_172 (dk_at dksX9_ray_0 18 rfl rfl)
theorem dX9_ray_19 : decode cX9_ray 19 = .ok (.aload_n 0, 1) := dk_42 (dk_at dksX9_ray_0 19 rfl rfl)
theorem dX9_ray_20 : decode cX9_ray 20 = .ok (.invokevirtual 339, 3) := dk_182 1 83 (dk_at dksX9_ray_0 20 rfl rfl)
theorem dX9_ray_23 : decode cX9_ray 23 = .ok (.iload_n 1, 1) := dk_27 (dk_at dksX9_ray_0 23 rfl rfl)
theorem dX9_ray_24 : decode cX9_ray 24 = .ok (.tableswitch 84 0 6 #[44, 49, 54, 59, 67, 73, 79], 44) := by decide +kernel
theorem dX9_ray_68 : decode cX9_ray 68 = .ok (.aload_n 0, 1) := dk_42 (dk_at dksX9_ray_2 0 rfl rfl)
theorem dX9_ray_69 : decode cX9_ray 69 = .ok (.getfield 152, 3) := dk_180 0 152 (dk_at dksX9_ray_2 1 rfl rfl)
theorem dX9_ray_72 : decode cX9_ray 72 = .ok (.ireturn, 1) := dk_172 (dk_at dksX9_ray_2 4 rfl rfl)
theorem dX9_ray_73 : decode cX9_ray 73 = .ok (.aload_n 0, 1) := dk_42 (dk_at dksX9_ray_2 5 rfl rfl)
theorem dX9_ray_74 : decode cX9_ray 74 = .ok (.invokevirtual 341, 3) := dk_182 1 85 (dk_at dksX9_ray_2 6 rfl rfl)
theorem dX9_ray_77 : decode cX9_ray 77 = .ok (.ireturn, 1) := dk_172 (dk_at dksX9_ray_2 9 rfl rfl)
theorem dX9_ray_78 : decode cX9_ray 78 = .ok (.aload_n 0, 1) := dk_42 (dk_at dksX9_ray_2 10 rfl rfl)
theorem dX9_ray_79 : decode cX9_ray 79 = .ok (.getfield 155, 3) := dk_180 0 155 (dk_at dksX9_ray_2 11 rfl rfl)
theorem dX9_ray_82 : decode cX9_ray 82 = .ok (.ireturn, 1) := dk_172 (dk_at dksX9_ray_2 14 rfl rfl)
theorem dX9_ray_83 : decode cX9_ray 83 = .ok (.aload_n 0, 1) := dk_42 (dk_at dksX9_ray_2 15 rfl rfl)
theorem dX9_ray_84 : decode cX9_ray 84 = .ok (.invokevirtual 167, 3) := dk_182 0 167 (dk_at dksX9_ray_2 16 rfl rfl)
theorem dX9_ray_87 : decode cX9_ray 87 = .ok (.invokestatic 327, 3) := dk_184 1 71 (dk_at dksX9_ray_2 19 rfl rfl)
theorem dX9_ray_90 : decode cX9_ray 90 = .ok (.ireturn, 1) := dk_172 (dk_at dksX9_ray_2 22 rfl rfl)
theorem dX9_ray_91 : decode cX9_ray 91 = .ok (.aload_n 0, 1) := dk_42 (dk_at dksX9_ray_2 23 rfl rfl)
theorem dX9_ray_92 : decode cX9_ray 92 = .ok (.iconst 0, 1) := dk_3 (dk_at dksX9_ray_3 0 rfl rfl)
theorem dX9_ray_93 : decode cX9_ray 93 = .ok (.invokevirtual 344, 3) := dk_182 1 88 (dk_at dksX9_ray_3 1 rfl rfl)
theorem dX9_ray_96 : decode cX9_ray 96 = .ok (.ireturn, 1) := dk_172 (dk_at dksX9_ray_3 4 rfl rfl)
theorem dX9_ray_97 : decode cX9_ray 97 = .ok (.aload_n 0, 1) := dk_42 (dk_at dksX9_ray_3 5 rfl rfl)
theorem dX9_ray_98 : decode cX9_ray 98 = .ok (.iconst 1, 1) := dk_4 (dk_at dksX9_ray_3 6 rfl rfl)
theorem dX9_ray_99 : decode cX9_ray 99 = .ok (.invokevirtual 344, 3) := dk_182 1 88 (dk_at dksX9_ray_3 7 rfl rfl)
theorem dX9_ray_102 : decode cX9_ray 102 = .ok (.ireturn, 1) := dk_172 (dk_at dksX9_ray_3 10 rfl rfl)
theorem dX9_ray_103 : decode cX9_ray 103 = .ok (.aload_n 0, 1) := dk_42 (dk_at dksX9_ray_3 11 rfl rfl)
theorem dX9_ray_104 : decode cX9_ray 104 = .ok (.invokevirtual 348, 3) := dk_182 1 92 (dk_at dksX9_ray_3 12 rfl rfl)
theorem dX9_ray_107 : decode cX9_ray 107 = .ok (.ireturn, 1) := dk_172 (dk_at dksX9_ray_3 15 rfl rfl)
theorem dX9_ray_108 : decode cX9_ray 108 = .ok (.aload_n 0, 1) := dk_42 (dk_at dksX9_ray_3 16 rfl rfl)
theorem dX9_ray_109 : decode cX9_ray 109 = .ok (.invokevirtual 351, 3) := dk_182 1 95 (dk_at dksX9_ray_3 17 rfl rfl)
theorem dX9_ray_112 : decode cX9_ray 112 = .ok (.ireturn, 1) := dk_172 (dk_at dksX9_ray_3 20 rfl rfl)
abbrev cX9_number_2 : ByteArray := prog_15_method_25_code
def yX9_number_2 : MethodName := ⟨RX9, "number", "()V"⟩
def dkwX9_number_2_5 : List UInt8 := [167, 255, 200, 177]
abbrev dktX9_number_2_5 : List UInt8 := dkwX9_number_2_5 ++ []
def dkwX9_number_2_4 : List UInt8 := [21, 4, 46, 42, 180, 0, 59, 28, 46, 4, 96, 182, 0, 158, 132, 4, 1, 167, 255, 228, 132, 2, 1]
abbrev dktX9_number_2_4 : List UInt8 := dkwX9_number_2_4 ++ dktX9_number_2_5
def dkwX9_number_2_3 : List UInt8 := [180, 0, 56, 28, 46, 182, 0, 132, 62, 3, 54, 4, 21, 4, 29, 162, 0, 28, 42, 42, 180, 0, 65]
abbrev dktX9_number_2_3 : List UInt8 := dkwX9_number_2_3 ++ dktX9_number_2_4
def dkwX9_number_2_2 : List UInt8 := [182, 0, 106, 182, 0, 126, 3, 182, 0, 158, 3, 61, 28, 42, 180, 0, 152, 162, 0, 54, 42, 42]
abbrev dktX9_number_2_2 : List UInt8 := dkwX9_number_2_2 ++ dktX9_number_2_3
def dkwX9_number_2_1 : List UInt8 := [167, 255, 239, 42, 3, 181, 0, 152, 42, 3, 181, 0, 155, 42, 182, 0, 143, 60, 42, 42, 27, 42, 27, 4]
abbrev dktX9_number_2_1 : List UInt8 := dkwX9_number_2_1 ++ dktX9_number_2_2
def dkwX9_number_2_0 : List UInt8 := [42, 182, 0, 149, 3, 60, 27, 17, 1, 144, 162, 0, 16, 42, 180, 0, 53, 27, 2, 79, 132, 1, 1]
abbrev dktX9_number_2_0 : List UInt8 := dkwX9_number_2_0 ++ dktX9_number_2_1
theorem dksX9_number_2_0 : cX9_number_2.data.toList.drop 0 = dktX9_number_2_0 := by decide +kernel
theorem dksX9_number_2_1 : cX9_number_2.data.toList.drop 23 = dktX9_number_2_1 := dk_seg dksX9_number_2_0 23 rfl rfl
theorem dksX9_number_2_2 : cX9_number_2.data.toList.drop 47 = dktX9_number_2_2 := dk_seg dksX9_number_2_1 24 rfl rfl
theorem dksX9_number_2_3 : cX9_number_2.data.toList.drop 69 = dktX9_number_2_3 := dk_seg dksX9_number_2_2 22 rfl rfl
theorem dksX9_number_2_4 : cX9_number_2.data.toList.drop 92 = dktX9_number_2_4 := dk_seg dksX9_number_2_3 23 rfl rfl
theorem dksX9_number_2_5 : cX9_number_2.data.toList.drop 115 = dktX9_number_2_5 := dk_seg dksX9_number_2_4 23 rfl rfl
theorem dX9_number_2_0 : decode cX9_number_2 0 = .ok (.aload_n 0, 1) := dk_42 (dk_at dksX9_number_2_0 0 rfl rfl)
theorem dX9_number_2_1 : decode cX9_number_2 1 = .ok (.invokevirtual 149, 3) := dk_182 0 149 (dk_at dksX9_number_2_0 1 rfl rfl)
theorem dX9_number_2_4 : decode cX9_number_2 4 = .ok (.iconst 0, 1) := dk_3 (dk_at dksX9_number_2_0 4 rfl rfl)
theorem dX9_number_2_5 : decode cX9_number_2 5 = .ok (.istore_n 1, 1) := dk_60 (dk_at dksX9_number_2_0 5 rfl rfl)
theorem dX9_number_2_6 : decode cX9_number_2 6 = .ok (.iload_n 1, 1) := dk_27 (dk_at dksX9_number_2_0 6 rfl rfl)
theorem dX9_number_2_7 : decode cX9_number_2 7 = .ok (.sipush 400, 3) := dk_17 1 144 (dk_at dksX9_number_2_0 7 rfl rfl)
theorem dX9_number_2_10 : decode cX9_number_2 10 = .ok (.if_icmp .ge 16, 3) := dk_162 0 16 (dk_at dksX9_number_2_0 10 rfl rfl)
theorem dX9_number_2_13 : decode cX9_number_2 13 = .ok (.aload_n 0, 1) := dk_42 (dk_at dksX9_number_2_0 13 rfl rfl)
theorem dX9_number_2_14 : decode cX9_number_2 14 = .ok (.getfield 53, 3) := dk_180 0 53 (dk_at dksX9_number_2_0 14 rfl rfl)
theorem dX9_number_2_17 : decode cX9_number_2 17 = .ok (.iload_n 1, 1) := dk_27 (dk_at dksX9_number_2_0 17 rfl rfl)
theorem dX9_number_2_18 : decode cX9_number_2 18 = .ok (.iconst (-1), 1) := dk_2 (dk_at dksX9_number_2_0 18 rfl rfl)
theorem dX9_number_2_19 : decode cX9_number_2 19 = .ok (.iastore, 1) := dk_79 (dk_at dksX9_number_2_0 19 rfl rfl)
theorem dX9_number_2_20 : decode cX9_number_2 20 = .ok (.iinc 1 1, 3) := dk_132 1 1 (dk_at dksX9_number_2_0 20 rfl rfl)
theorem dX9_number_2_23 : decode cX9_number_2 23 = .ok (.goto (-17), 3) := dk_167 255 239 (dk_at dksX9_number_2_1 0 rfl rfl)
theorem dX9_number_2_26 : decode cX9_number_2 26 = .ok (.aload_n 0, 1) := dk_42 (dk_at dksX9_number_2_1 3 rfl rfl)
theorem dX9_number_2_27 : decode cX9_number_2 27 = .ok (.iconst 0, 1) := dk_3 (dk_at dksX9_number_2_1 4 rfl rfl)
theorem dX9_number_2_28 : decode cX9_number_2 28 = .ok (.putfield 152, 3) := dk_181 0 152 (dk_at dksX9_number_2_1 5 rfl rfl)
theorem dX9_number_2_31 : decode cX9_number_2 31 = .ok (.aload_n 0, 1) := dk_42 (dk_at dksX9_number_2_1 8 rfl rfl)
theorem dX9_number_2_32 : decode cX9_number_2 32 = .ok (.iconst 0, 1) := dk_3 (dk_at dksX9_number_2_1 9 rfl rfl)
theorem dX9_number_2_33 : decode cX9_number_2 33 = .ok (.putfield 155, 3) := dk_181 0 155 (dk_at dksX9_number_2_1 10 rfl rfl)
theorem dX9_number_2_36 : decode cX9_number_2 36 = .ok (.aload_n 0, 1) := dk_42 (dk_at dksX9_number_2_1 13 rfl rfl)
theorem dX9_number_2_37 : decode cX9_number_2 37 = .ok (.invokevirtual 143, 3) := dk_182 0 143 (dk_at dksX9_number_2_1 14 rfl rfl)
theorem dX9_number_2_40 : decode cX9_number_2 40 = .ok (.istore_n 1, 1) := dk_60 (dk_at dksX9_number_2_1 17 rfl rfl)
theorem dX9_number_2_41 : decode cX9_number_2 41 = .ok (.aload_n 0, 1) := dk_42 (dk_at dksX9_number_2_1 18 rfl rfl)
theorem dX9_number_2_42 : decode cX9_number_2 42 = .ok (.aload_n 0, 1) := dk_42 (dk_at dksX9_number_2_1 19 rfl rfl)
theorem dX9_number_2_43 : decode cX9_number_2 43 = .ok (.iload_n 1, 1) := dk_27 (dk_at dksX9_number_2_1 20 rfl rfl)
theorem dX9_number_2_44 : decode cX9_number_2 44 = .ok (.aload_n 0, 1) := dk_42 (dk_at dksX9_number_2_1 21 rfl rfl)
theorem dX9_number_2_45 : decode cX9_number_2 45 = .ok (.iload_n 1, 1) := dk_27 (dk_at dksX9_number_2_1 22 rfl rfl)
theorem dX9_number_2_46 : decode cX9_number_2 46 = .ok (.iconst 1, 1) := dk_4 (dk_at dksX9_number_2_1 23 rfl rfl)
theorem dX9_number_2_47 : decode cX9_number_2 47 = .ok (.invokevirtual 106, 3) := dk_182 0 106 (dk_at dksX9_number_2_2 0 rfl rfl)
theorem dX9_number_2_50 : decode cX9_number_2 50 = .ok (.invokevirtual 126, 3) := dk_182 0 126 (dk_at dksX9_number_2_2 3 rfl rfl)
theorem dX9_number_2_53 : decode cX9_number_2 53 = .ok (.iconst 0, 1) := dk_3 (dk_at dksX9_number_2_2 6 rfl rfl)
theorem dX9_number_2_54 : decode cX9_number_2 54 = .ok (.invokevirtual 158, 3) := dk_182 0 158 (dk_at dksX9_number_2_2 7 rfl rfl)
theorem dX9_number_2_57 : decode cX9_number_2 57 = .ok (.iconst 0, 1) := dk_3 (dk_at dksX9_number_2_2 10 rfl rfl)
theorem dX9_number_2_58 : decode cX9_number_2 58 = .ok (.istore_n 2, 1) := dk_61 (dk_at dksX9_number_2_2 11 rfl rfl)
theorem dX9_number_2_59 : decode cX9_number_2 59 = .ok (.iload_n 2, 1) := dk_28 (dk_at dksX9_number_2_2 12 rfl rfl)
theorem dX9_number_2_60 : decode cX9_number_2 60 = .ok (.aload_n 0, 1) := dk_42 (dk_at dksX9_number_2_2 13 rfl rfl)
theorem dX9_number_2_61 : decode cX9_number_2 61 = .ok (.getfield 152, 3) := dk_180 0 152 (dk_at dksX9_number_2_2 14 rfl rfl)
theorem dX9_number_2_64 : decode cX9_number_2 64 = .ok (.if_icmp .ge 54, 3) := dk_162 0 54 (dk_at dksX9_number_2_2 17 rfl rfl)
theorem dX9_number_2_67 : decode cX9_number_2 67 = .ok (.aload_n 0, 1) := dk_42 (dk_at dksX9_number_2_2 20 rfl rfl)
theorem dX9_number_2_68 : decode cX9_number_2 68 = .ok (.aload_n 0, 1) := dk_42 (dk_at dksX9_number_2_2 21 rfl rfl)
theorem dX9_number_2_69 : decode cX9_number_2 69 = .ok (.getfield 56, 3) := dk_180 0 56 (dk_at dksX9_number_2_3 0 rfl rfl)
theorem dX9_number_2_72 : decode cX9_number_2 72 = .ok (.iload_n 2, 1) := dk_28 (dk_at dksX9_number_2_3 3 rfl rfl)
theorem dX9_number_2_73 : decode cX9_number_2 73 = .ok (.iaload, 1) := dk_46 (dk_at dksX9_number_2_3 4 rfl rfl)
theorem dX9_number_2_74 : decode cX9_number_2 74 = .ok (.invokevirtual 132, 3) := dk_182 0 132 (dk_at dksX9_number_2_3 5 rfl rfl)
theorem dX9_number_2_77 : decode cX9_number_2 77 = .ok (.istore_n 3, 1) := dk_62 (dk_at dksX9_number_2_3 8 rfl rfl)
theorem dX9_number_2_78 : decode cX9_number_2 78 = .ok (.iconst 0, 1) := dk_3 (dk_at dksX9_number_2_3 9 rfl rfl)
theorem dX9_number_2_79 : decode cX9_number_2 79 = .ok (.istore 4, 2) := dk_54 4 (dk_at dksX9_number_2_3 10 rfl rfl)
theorem dX9_number_2_81 : decode cX9_number_2 81 = .ok (.iload 4, 2) := dk_21 4 (dk_at dksX9_number_2_3 12 rfl rfl)
theorem dX9_number_2_83 : decode cX9_number_2 83 = .ok (.iload_n 3, 1) := dk_29 (dk_at dksX9_number_2_3 14 rfl rfl)
theorem dX9_number_2_84 : decode cX9_number_2 84 = .ok (.if_icmp .ge 28, 3) := dk_162 0 28 (dk_at dksX9_number_2_3 15 rfl rfl)
theorem dX9_number_2_87 : decode cX9_number_2 87 = .ok (.aload_n 0, 1) := dk_42 (dk_at dksX9_number_2_3 18 rfl rfl)
theorem dX9_number_2_88 : decode cX9_number_2 88 = .ok (.aload_n 0, 1) := dk_42 (dk_at dksX9_number_2_3 19 rfl rfl)
theorem dX9_number_2_89 : decode cX9_number_2 89 = .ok (.getfield 65, 3) := dk_180 0 65 (dk_at dksX9_number_2_3 20 rfl rfl)
theorem dX9_number_2_92 : decode cX9_number_2 92 = .ok (.iload 4, 2) := dk_21 4 (dk_at dksX9_number_2_4 0 rfl rfl)
theorem dX9_number_2_94 : decode cX9_number_2 94 = .ok (.iaload, 1) := dk_46 (dk_at dksX9_number_2_4 2 rfl rfl)
theorem dX9_number_2_95 : decode cX9_number_2 95 = .ok (.aload_n 0, 1) := dk_42 (dk_at dksX9_number_2_4 3 rfl rfl)
theorem dX9_number_2_96 : decode cX9_number_2 96 = .ok (.getfield 59, 3) := dk_180 0 59 (dk_at dksX9_number_2_4 4 rfl rfl)
theorem dX9_number_2_99 : decode cX9_number_2 99 = .ok (.iload_n 2, 1) := dk_28 (dk_at dksX9_number_2_4 7 rfl rfl)
theorem dX9_number_2_100 : decode cX9_number_2 100 = .ok (.iaload, 1) := dk_46 (dk_at dksX9_number_2_4 8 rfl rfl)
theorem dX9_number_2_101 : decode cX9_number_2 101 = .ok (.iconst 1, 1) := dk_4 (dk_at dksX9_number_2_4 9 rfl rfl)
theorem dX9_number_2_102 : decode cX9_number_2 102 = .ok (.iadd, 1) := dk_96 (dk_at dksX9_number_2_4 10 rfl rfl)
theorem dX9_number_2_103 : decode cX9_number_2 103 = .ok (.invokevirtual 158, 3) := dk_182 0 158 (dk_at dksX9_number_2_4 11 rfl rfl)
theorem dX9_number_2_106 : decode cX9_number_2 106 = .ok (.iinc 4 1, 3) := dk_132 4 1 (dk_at dksX9_number_2_4 14 rfl rfl)
theorem dX9_number_2_109 : decode cX9_number_2 109 = .ok (.goto (-28), 3) := dk_167 255 228 (dk_at dksX9_number_2_4 17 rfl rfl)
theorem dX9_number_2_112 : decode cX9_number_2 112 = .ok (.iinc 2 1, 3) := dk_132 2 1 (dk_at dksX9_number_2_4 20 rfl rfl)
theorem dX9_number_2_115 : decode cX9_number_2 115 = .ok (.goto (-56), 3) := dk_167 255 200 (dk_at dksX9_number_2_5 0 rfl rfl)
theorem dX9_number_2_118 : decode cX9_number_2 118 = .ok (.return_, 1) := dk_177 (dk_at dksX9_number_2_5 3 rfl rfl)
abbrev cX9_note : ByteArray := prog_15_method_26_code
def yX9_note : MethodName := ⟨RX9, "note", "(II)V"⟩
def dkwX9_note_2 : List UInt8 := [42, 180, 0, 59, 42, 180, 0, 152, 28, 79, 42, 89, 180, 0, 152, 4, 96, 181, 0, 152, 177]
abbrev dktX9_note_2 : List UInt8 := dkwX9_note_2 ++ []
def dkwX9_note_1 : List UInt8 := [2, 160, 0, 43, 42, 180, 0, 53, 27, 42, 180, 0, 152, 79, 42, 180, 0, 56, 42, 180, 0, 152, 27, 79]
abbrev dktX9_note_1 : List UInt8 := dkwX9_note_1 ++ dktX9_note_2
def dkwX9_note_0 : List UInt8 := [27, 2, 160, 0, 16, 42, 89, 180, 0, 155, 4, 96, 181, 0, 155, 167, 0, 53, 42, 180, 0, 53, 27, 46]
abbrev dktX9_note_0 : List UInt8 := dkwX9_note_0 ++ dktX9_note_1
theorem dksX9_note_0 : cX9_note.data.toList.drop 0 = dktX9_note_0 := by decide +kernel
theorem dksX9_note_1 : cX9_note.data.toList.drop 24 = dktX9_note_1 := dk_seg dksX9_note_0 24 rfl rfl
theorem dksX9_note_2 : cX9_note.data.toList.drop 48 = dktX9_note_2 := dk_seg dksX9_note_1 24 rfl rfl
theorem dX9_note_0 : decode cX9_note 0 = .ok (.iload_n 1, 1) := dk_27 (dk_at dksX9_note_0 0 rfl rfl)
theorem dX9_note_1 : decode cX9_note 1 = .ok (.iconst (-1), 1) := dk_2 (dk_at dksX9_note_0 1 rfl rfl)
theorem dX9_note_2 : decode cX9_note 2 = .ok (.if_icmp .ne 16, 3) := dk_160 0 16 (dk_at dksX9_note_0 2 rfl rfl)
theorem dX9_note_5 : decode cX9_note 5 = .ok (.aload_n 0, 1) := dk_42 (dk_at dksX9_note_0 5 rfl rfl)
theorem dX9_note_6 : decode cX9_note 6 = .ok (.dup, 1) := dk_89 (dk_at dksX9_note_0 6 rfl rfl)
theorem dX9_note_7 : decode cX9_note 7 = .ok (.getfield 155, 3) := dk_180 0 155 (dk_at dksX9_note_0 7 rfl rfl)
theorem dX9_note_10 : decode cX9_note 10 = .ok (.iconst 1, 1) := dk_4 (dk_at dksX9_note_0 10 rfl rfl)
theorem dX9_note_11 : decode cX9_note 11 = .ok (.iadd, 1) := dk_96 (dk_at dksX9_note_0 11 rfl rfl)
theorem dX9_note_12 : decode cX9_note 12 = .ok (.putfield 155, 3) := dk_181 0 155 (dk_at dksX9_note_0 12 rfl rfl)
theorem dX9_note_15 : decode cX9_note 15 = .ok (.goto 53, 3) := dk_167 0 53 (dk_at dksX9_note_0 15 rfl rfl)
theorem dX9_note_18 : decode cX9_note 18 = .ok (.aload_n 0, 1) := dk_42 (dk_at dksX9_note_0 18 rfl rfl)
theorem dX9_note_19 : decode cX9_note 19 = .ok (.getfield 53, 3) := dk_180 0 53 (dk_at dksX9_note_0 19 rfl rfl)
theorem dX9_note_22 : decode cX9_note 22 = .ok (.iload_n 1, 1) := dk_27 (dk_at dksX9_note_0 22 rfl rfl)
theorem dX9_note_23 : decode cX9_note 23 = .ok (.iaload, 1) := dk_46 (dk_at dksX9_note_0 23 rfl rfl)
theorem dX9_note_24 : decode cX9_note 24 = .ok (.iconst (-1), 1) := dk_2 (dk_at dksX9_note_1 0 rfl rfl)
theorem dX9_note_25 : decode cX9_note 25 = .ok (.if_icmp .ne 43, 3) := dk_160 0 43 (dk_at dksX9_note_1 1 rfl rfl)
theorem dX9_note_28 : decode cX9_note 28 = .ok (.aload_n 0, 1) := dk_42 (dk_at dksX9_note_1 4 rfl rfl)
theorem dX9_note_29 : decode cX9_note 29 = .ok (.getfield 53, 3) := dk_180 0 53 (dk_at dksX9_note_1 5 rfl rfl)
theorem dX9_note_32 : decode cX9_note 32 = .ok (.iload_n 1, 1) := dk_27 (dk_at dksX9_note_1 8 rfl rfl)
theorem dX9_note_33 : decode cX9_note 33 = .ok (.aload_n 0, 1) := dk_42 (dk_at dksX9_note_1 9 rfl rfl)
theorem dX9_note_34 : decode cX9_note 34 = .ok (.getfield 152, 3) := dk_180 0 152 (dk_at dksX9_note_1 10 rfl rfl)
theorem dX9_note_37 : decode cX9_note 37 = .ok (.iastore, 1) := dk_79 (dk_at dksX9_note_1 13 rfl rfl)
theorem dX9_note_38 : decode cX9_note 38 = .ok (.aload_n 0, 1) := dk_42 (dk_at dksX9_note_1 14 rfl rfl)
theorem dX9_note_39 : decode cX9_note 39 = .ok (.getfield 56, 3) := dk_180 0 56 (dk_at dksX9_note_1 15 rfl rfl)
theorem dX9_note_42 : decode cX9_note 42 = .ok (.aload_n 0, 1) := dk_42 (dk_at dksX9_note_1 18 rfl rfl)
theorem dX9_note_43 : decode cX9_note 43 = .ok (.getfield 152, 3) := dk_180 0 152 (dk_at dksX9_note_1 19 rfl rfl)
theorem dX9_note_46 : decode cX9_note 46 = .ok (.iload_n 1, 1) := dk_27 (dk_at dksX9_note_1 22 rfl rfl)
theorem dX9_note_47 : decode cX9_note 47 = .ok (.iastore, 1) := dk_79 (dk_at dksX9_note_1 23 rfl rfl)
theorem dX9_note_48 : decode cX9_note 48 = .ok (.aload_n 0, 1) := dk_42 (dk_at dksX9_note_2 0 rfl rfl)
theorem dX9_note_49 : decode cX9_note 49 = .ok (.getfield 59, 3) := dk_180 0 59 (dk_at dksX9_note_2 1 rfl rfl)
theorem dX9_note_52 : decode cX9_note 52 = .ok (.aload_n 0, 1) := dk_42 (dk_at dksX9_note_2 4 rfl rfl)
theorem dX9_note_53 : decode cX9_note 53 = .ok (.getfield 152, 3) := dk_180 0 152 (dk_at dksX9_note_2 5 rfl rfl)
theorem dX9_note_56 : decode cX9_note 56 = .ok (.iload_n 2, 1) := dk_28 (dk_at dksX9_note_2 8 rfl rfl)
theorem dX9_note_57 : decode cX9_note 57 = .ok (.iastore, 1) := dk_79 (dk_at dksX9_note_2 9 rfl rfl)
theorem dX9_note_58 : decode cX9_note 58 = .ok (.aload_n 0, 1) := dk_42 (dk_at dksX9_note_2 10 rfl rfl)
theorem dX9_note_59 : decode cX9_note 59 = .ok (.dup, 1) := dk_89 (dk_at dksX9_note_2 11 rfl rfl)
theorem dX9_note_60 : decode cX9_note 60 = .ok (.getfield 152, 3) := dk_180 0 152 (dk_at dksX9_note_2 12 rfl rfl)
theorem dX9_note_63 : decode cX9_note 63 = .ok (.iconst 1, 1) := dk_4 (dk_at dksX9_note_2 15 rfl rfl)
theorem dX9_note_64 : decode cX9_note 64 = .ok (.iadd, 1) := dk_96 (dk_at dksX9_note_2 16 rfl rfl)
theorem dX9_note_65 : decode cX9_note 65 = .ok (.putfield 152, 3) := dk_181 0 152 (dk_at dksX9_note_2 17 rfl rfl)
theorem dX9_note_68 : decode cX9_note 68 = .ok (.return_, 1) := dk_177 (dk_at dksX9_note_2 20 rfl rfl)
abbrev cX9_ringBeams : ByteArray := prog_15_method_84_code
def yX9_ringBeams : MethodName := ⟨RX9, "ringBeams", "()I"⟩
def dkwX9_ringBeams_1 : List UInt8 := [153, 0, 7, 4, 167, 0, 4, 3, 96, 60, 132, 2, 1, 167, 255, 224, 27, 172]
abbrev dktX9_ringBeams_1 : List UInt8 := dkwX9_ringBeams_1 ++ []
def dkwX9_ringBeams_0 : List UInt8 := [3, 60, 3, 61, 28, 42, 180, 0, 152, 162, 0, 30, 27, 42, 42, 180, 0, 56, 28, 46, 182, 1, 77]
abbrev dktX9_ringBeams_0 : List UInt8 := dkwX9_ringBeams_0 ++ dktX9_ringBeams_1
theorem dksX9_ringBeams_0 : cX9_ringBeams.data.toList.drop 0 = dktX9_ringBeams_0 := by decide +kernel
theorem dksX9_ringBeams_1 : cX9_ringBeams.data.toList.drop 23 = dktX9_ringBeams_1 := dk_seg dksX9_ringBeams_0 23 rfl rfl
theorem dX9_ringBeams_0 : decode cX9_ringBeams 0 = .ok (.iconst 0, 1) := dk_3 (dk_at dksX9_ringBeams_0 0 rfl rfl)
theorem dX9_ringBeams_1 : decode cX9_ringBeams 1 = .ok (.istore_n 1, 1) := dk_60 (dk_at dksX9_ringBeams_0 1 rfl rfl)
theorem dX9_ringBeams_2 : decode cX9_ringBeams 2 = .ok (.iconst 0, 1) := dk_3 (dk_at dksX9_ringBeams_0 2 rfl rfl)
theorem dX9_ringBeams_3 : decode cX9_ringBeams 3 = .ok (.istore_n 2, 1) := dk_61 (dk_at dksX9_ringBeams_0 3 rfl rfl)
theorem dX9_ringBeams_4 : decode cX9_ringBeams 4 = .ok (.iload_n 2, 1) := dk_28 (dk_at dksX9_ringBeams_0 4 rfl rfl)
theorem dX9_ringBeams_5 : decode cX9_ringBeams 5 = .ok (.aload_n 0, 1) := dk_42 (dk_at dksX9_ringBeams_0 5 rfl rfl)
theorem dX9_ringBeams_6 : decode cX9_ringBeams 6 = .ok (.getfield 152, 3) := dk_180 0 152 (dk_at dksX9_ringBeams_0 6 rfl rfl)
theorem dX9_ringBeams_9 : decode cX9_ringBeams 9 = .ok (.if_icmp .ge 30, 3) := dk_162 0 30 (dk_at dksX9_ringBeams_0 9 rfl rfl)
theorem dX9_ringBeams_12 : decode cX9_ringBeams 12 = .ok (.iload_n 1, 1) := dk_27 (dk_at dksX9_ringBeams_0 12 rfl rfl)
theorem dX9_ringBeams_13 : decode cX9_ringBeams 13 = .ok (.aload_n 0, 1) := dk_42 (dk_at dksX9_ringBeams_0 13 rfl rfl)
theorem dX9_ringBeams_14 : decode cX9_ringBeams 14 = .ok (.aload_n 0, 1) := dk_42 (dk_at dksX9_ringBeams_0 14 rfl rfl)
theorem dX9_ringBeams_15 : decode cX9_ringBeams 15 = .ok (.getfield 56, 3) := dk_180 0 56 (dk_at dksX9_ringBeams_0 15 rfl rfl)
theorem dX9_ringBeams_18 : decode cX9_ringBeams 18 = .ok (.iload_n 2, 1) := dk_28 (dk_at dksX9_ringBeams_0 18 rfl rfl)
theorem dX9_ringBeams_19 : decode cX9_ringBeams 19 = .ok (.iaload, 1) := dk_46 (dk_at dksX9_ringBeams_0 19 rfl rfl)
theorem dX9_ringBeams_20 : decode cX9_ringBeams 20 = .ok (.invokevirtual 333, 3) := dk_182 1 77 (dk_at dksX9_ringBeams_0 20 rfl rfl)
theorem dX9_ringBeams_23 : decode cX9_ringBeams 23 = .ok (.ifCond .eq 7, 3) := dk_153 0 7 (dk_at dksX9_ringBeams_1 0 rfl rfl)
theorem dX9_ringBeams_26 : decode cX9_ringBeams 26 = .ok (.iconst 1, 1) := dk_4 (dk_at dksX9_ringBeams_1 3 rfl rfl)
theorem dX9_ringBeams_27 : decode cX9_ringBeams 27 = .ok (.goto 4, 3) := dk_167 0 4 (dk_at dksX9_ringBeams_1 4 rfl rfl)
theorem dX9_ringBeams_30 : decode cX9_ringBeams 30 = .ok (.iconst 0, 1) := dk_3 (dk_at dksX9_ringBeams_1 7 rfl rfl)
theorem dX9_ringBeams_31 : decode cX9_ringBeams 31 = .ok (.iadd, 1) := dk_96 (dk_at dksX9_ringBeams_1 8 rfl rfl)
theorem dX9_ringBeams_32 : decode cX9_ringBeams 32 = .ok (.istore_n 1, 1) := dk_60 (dk_at dksX9_ringBeams_1 9 rfl rfl)
theorem dX9_ringBeams_33 : decode cX9_ringBeams 33 = .ok (.iinc 2 1, 3) := dk_132 2 1 (dk_at dksX9_ringBeams_1 10 rfl rfl)
theorem dX9_ringBeams_36 : decode cX9_ringBeams 36 = .ok (.goto (-32), 3) := dk_167 255 224 (dk_at dksX9_ringBeams_1 13 rfl rfl)
theorem dX9_ringBeams_39 : decode cX9_ringBeams 39 = .ok (.iload_n 1, 1) := dk_27 (dk_at dksX9_ringBeams_1 16 rfl rfl)
theorem dX9_ringBeams_40 : decode cX9_ringBeams 40 = .ok (.ireturn, 1) := dk_172 (dk_at dksX9_ringBeams_1 17 rfl rfl)
abbrev cX9_isInRing : ByteArray := prog_15_method_27_code
def yX9_isInRing : MethodName := ⟨RX9, "isInRing", "(I)Z"⟩
def dkwX9_isInRing_1 : List UInt8 := [42, 180, 0, 62, 182, 0, 146, 42, 180, 0, 62, 27, 51, 172]
abbrev dktX9_isInRing_1 : List UInt8 := dkwX9_isInRing_1 ++ []
def dkwX9_isInRing_0 : List UInt8 := [3, 61, 28, 17, 1, 144, 162, 0, 16, 42, 180, 0, 62, 28, 3, 84, 132, 2, 1, 167, 255, 239, 42, 27]
abbrev dktX9_isInRing_0 : List UInt8 := dkwX9_isInRing_0 ++ dktX9_isInRing_1
theorem dksX9_isInRing_0 : cX9_isInRing.data.toList.drop 0 = dktX9_isInRing_0 := by decide +kernel
theorem dksX9_isInRing_1 : cX9_isInRing.data.toList.drop 24 = dktX9_isInRing_1 := dk_seg dksX9_isInRing_0 24 rfl rfl
theorem dX9_isInRing_0 : decode cX9_isInRing 0 = .ok (.iconst 0, 1) := dk_3 (dk_at dksX9_isInRing_0 0 rfl rfl)
theorem dX9_isInRing_1 : decode cX9_isInRing 1 = .ok (.istore_n 2, 1) := dk_61 (dk_at dksX9_isInRing_0 1 rfl rfl)
theorem dX9_isInRing_2 : decode cX9_isInRing 2 = .ok (.iload_n 2, 1) := dk_28 (dk_at dksX9_isInRing_0 2 rfl rfl)
theorem dX9_isInRing_3 : decode cX9_isInRing 3 = .ok (.sipush 400, 3) := dk_17 1 144 (dk_at dksX9_isInRing_0 3 rfl rfl)
theorem dX9_isInRing_6 : decode cX9_isInRing 6 = .ok (.if_icmp .ge 16, 3) := dk_162 0 16 (dk_at dksX9_isInRing_0 6 rfl rfl)
theorem dX9_isInRing_9 : decode cX9_isInRing 9 = .ok (.aload_n 0, 1) := dk_42 (dk_at dksX9_isInRing_0 9 rfl rfl)
theorem dX9_isInRing_10 : decode cX9_isInRing 10 = .ok (.getfield 62, 3) := dk_180 0 62 (dk_at dksX9_isInRing_0 10 rfl rfl)
theorem dX9_isInRing_13 : decode cX9_isInRing 13 = .ok (.iload_n 2, 1) := dk_28 (dk_at dksX9_isInRing_0 13 rfl rfl)
theorem dX9_isInRing_14 : decode cX9_isInRing 14 = .ok (.iconst 0, 1) := dk_3 (dk_at dksX9_isInRing_0 14 rfl rfl)
theorem dX9_isInRing_15 : decode cX9_isInRing 15 = .ok (.bastore, 1) := dk_84 (dk_at dksX9_isInRing_0 15 rfl rfl)
theorem dX9_isInRing_16 : decode cX9_isInRing 16 = .ok (.iinc 2 1, 3) := dk_132 2 1 (dk_at dksX9_isInRing_0 16 rfl rfl)
theorem dX9_isInRing_19 : decode cX9_isInRing 19 = .ok (.goto (-17), 3) := dk_167 255 239 (dk_at dksX9_isInRing_0 19 rfl rfl)
theorem dX9_isInRing_22 : decode cX9_isInRing 22 = .ok (.aload_n 0, 1) := dk_42 (dk_at dksX9_isInRing_0 22 rfl rfl)
theorem dX9_isInRing_23 : decode cX9_isInRing 23 = .ok (.iload_n 1, 1) := dk_27 (dk_at dksX9_isInRing_0 23 rfl rfl)
theorem dX9_isInRing_24 : decode cX9_isInRing 24 = .ok (.aload_n 0, 1) := dk_42 (dk_at dksX9_isInRing_1 0 rfl rfl)
theorem dX9_isInRing_25 : decode cX9_isInRing 25 = .ok (.getfield 62, 3) := dk_180 0 62 (dk_at dksX9_isInRing_1 1 rfl rfl)
theorem dX9_isInRing_28 : decode cX9_isInRing 28 = .ok (.invokevirtual 146, 3) := dk_182 0 146 (dk_at dksX9_isInRing_1 4 rfl rfl)
theorem dX9_isInRing_31 : decode cX9_isInRing 31 = .ok (.aload_n 0, 1) := dk_42 (dk_at dksX9_isInRing_1 7 rfl rfl)
theorem dX9_isInRing_32 : decode cX9_isInRing 32 = .ok (.getfield 62, 3) := dk_180 0 62 (dk_at dksX9_isInRing_1 8 rfl rfl)
theorem dX9_isInRing_35 : decode cX9_isInRing 35 = .ok (.iload_n 1, 1) := dk_27 (dk_at dksX9_isInRing_1 11 rfl rfl)
theorem dX9_isInRing_36 : decode cX9_isInRing 36 = .ok (.baload, 1) := dk_51 (dk_at dksX9_isInRing_1 12 rfl rfl)
theorem dX9_isInRing_37 : decode cX9_isInRing 37 = .ok (.ireturn, 1) := dk_172 (dk_at dksX9_isInRing_1 13 rfl rfl)
abbrev cX9_litCells : ByteArray := prog_15_method_85_code
def yX9_litCells : MethodName := ⟨RX9, "litCells", "(Z)I"⟩
def dkwX9_litCells_2 : List UInt8 := [132, 3, 1, 167, 255, 211, 28, 172]
abbrev dktX9_litCells_2 : List UInt8 := dkwX9_litCells_2 ++ []
def dkwX9_litCells_1 : List UInt8 := [153, 0, 19, 27, 153, 0, 11, 42, 29, 182, 0, 109, 153, 0, 7, 4, 167, 0, 4, 3, 96, 61]
abbrev dktX9_litCells_1 : List UInt8 := dkwX9_litCells_1 ++ dktX9_litCells_2
def dkwX9_litCells_0 : List UInt8 := [3, 61, 3, 62, 29, 16, 100, 162, 0, 45, 28, 42, 29, 182, 0, 113, 153, 0, 27, 42, 29, 182, 0, 164]
abbrev dktX9_litCells_0 : List UInt8 := dkwX9_litCells_0 ++ dktX9_litCells_1
theorem dksX9_litCells_0 : cX9_litCells.data.toList.drop 0 = dktX9_litCells_0 := by decide +kernel
theorem dksX9_litCells_1 : cX9_litCells.data.toList.drop 24 = dktX9_litCells_1 := dk_seg dksX9_litCells_0 24 rfl rfl
theorem dksX9_litCells_2 : cX9_litCells.data.toList.drop 46 = dktX9_litCells_2 := dk_seg dksX9_litCells_1 22 rfl rfl
theorem dX9_litCells_0 : decode cX9_litCells 0 = .ok (.iconst 0, 1) := dk_3 (dk_at dksX9_litCells_0 0 rfl rfl)
theorem dX9_litCells_1 : decode cX9_litCells 1 = .ok (.istore_n 2, 1) := dk_61 (dk_at dksX9_litCells_0 1 rfl rfl)
theorem dX9_litCells_2 : decode cX9_litCells 2 = .ok (.iconst 0, 1) := dk_3 (dk_at dksX9_litCells_0 2 rfl rfl)
theorem dX9_litCells_3 : decode cX9_litCells 3 = .ok (.istore_n 3, 1) := dk_62 (dk_at dksX9_litCells_0 3 rfl rfl)
theorem dX9_litCells_4 : decode cX9_litCells 4 = .ok (.iload_n 3, 1) := dk_29 (dk_at dksX9_litCells_0 4 rfl rfl)
theorem dX9_litCells_5 : decode cX9_litCells 5 = .ok (.bipush 100, 2) := dk_16 100 (dk_at dksX9_litCells_0 5 rfl rfl)
theorem dX9_litCells_7 : decode cX9_litCells 7 = .ok (.if_icmp .ge 45, 3) := dk_162 0 45 (dk_at dksX9_litCells_0 7 rfl rfl)
theorem dX9_litCells_10 : decode cX9_litCells 10 = .ok (.iload_n 2, 1) := dk_28 (dk_at dksX9_litCells_0 10 rfl rfl)
theorem dX9_litCells_11 : decode cX9_litCells 11 = .ok (.aload_n 0, 1) := dk_42 (dk_at dksX9_litCells_0 11 rfl rfl)
theorem dX9_litCells_12 : decode cX9_litCells 12 = .ok (.iload_n 3, 1) := dk_29 (dk_at dksX9_litCells_0 12 rfl rfl)
theorem dX9_litCells_13 : decode cX9_litCells 13 = .ok (.invokevirtual 113, 3) := dk_182 0 113 (dk_at dksX9_litCells_0 13 rfl rfl)
theorem dX9_litCells_16 : decode cX9_litCells 16 = .ok (.ifCond .eq 27, 3) := dk_153 0 27 (dk_at dksX9_litCells_0 16 rfl rfl)
theorem dX9_litCells_19 : decode cX9_litCells 19 = .ok (.aload_n 0, 1) := dk_42 (dk_at dksX9_litCells_0 19 rfl rfl)
theorem dX9_litCells_20 : decode cX9_litCells 20 = .ok (.iload_n 3, 1) := dk_29 (dk_at dksX9_litCells_0 20 rfl rfl)
theorem dX9_litCells_21 : decode cX9_litCells 21 = .ok (.invokevirtual 164, 3) := dk_182 0 164 (dk_at dksX9_litCells_0 21 rfl rfl)
theorem dX9_litCells_24 : decode cX9_litCells 24 = .ok (.ifCond .eq 19, 3) := dk_153 0 19 (dk_at dksX9_litCells_1 0 rfl rfl)
theorem dX9_litCells_27 : decode cX9_litCells 27 = .ok (.iload_n 1, 1) := dk_27 (dk_at dksX9_litCells_1 3 rfl rfl)
theorem dX9_litCells_28 : decode cX9_litCells 28 = .ok (.ifCond .eq 11, 3) := dk_153 0 11 (dk_at dksX9_litCells_1 4 rfl rfl)
theorem dX9_litCells_31 : decode cX9_litCells 31 = .ok (.aload_n 0, 1) := dk_42 (dk_at dksX9_litCells_1 7 rfl rfl)
theorem dX9_litCells_32 : decode cX9_litCells 32 = .ok (.iload_n 3, 1) := dk_29 (dk_at dksX9_litCells_1 8 rfl rfl)
theorem dX9_litCells_33 : decode cX9_litCells 33 = .ok (.invokevirtual 109, 3) := dk_182 0 109 (dk_at dksX9_litCells_1 9 rfl rfl)
theorem dX9_litCells_36 : decode cX9_litCells 36 = .ok (.ifCond .eq 7, 3) := dk_153 0 7 (dk_at dksX9_litCells_1 12 rfl rfl)
theorem dX9_litCells_39 : decode cX9_litCells 39 = .ok (.iconst 1, 1) := dk_4 (dk_at dksX9_litCells_1 15 rfl rfl)
theorem dX9_litCells_40 : decode cX9_litCells 40 = .ok (.goto 4, 3) := dk_167 0 4 (dk_at dksX9_litCells_1 16 rfl rfl)
theorem dX9_litCells_43 : decode cX9_litCells 43 = .ok (.iconst 0, 1) := dk_3 (dk_at dksX9_litCells_1 19 rfl rfl)
theorem dX9_litCells_44 : decode cX9_litCells 44 = .ok (.iadd, 1) := dk_96 (dk_at dksX9_litCells_1 20 rfl rfl)
theorem dX9_litCells_45 : decode cX9_litCells 45 = .ok (.istore_n 2, 1) := dk_61 (dk_at dksX9_litCells_1 21 rfl rfl)
theorem dX9_litCells_46 : decode cX9_litCells 46 = .ok (.iinc 3 1, 3) := dk_132 3 1 (dk_at dksX9_litCells_2 0 rfl rfl)
theorem dX9_litCells_49 : decode cX9_litCells 49 = .ok (.goto (-45), 3) := dk_167 255 211 (dk_at dksX9_litCells_2 3 rfl rfl)
theorem dX9_litCells_52 : decode cX9_litCells 52 = .ok (.iload_n 2, 1) := dk_28 (dk_at dksX9_litCells_2 6 rfl rfl)
theorem dX9_litCells_53 : decode cX9_litCells 53 = .ok (.ireturn, 1) := dk_172 (dk_at dksX9_litCells_2 7 rfl rfl)
abbrev cX9_heldByGates : ByteArray := prog_15_method_86_code
def yX9_heldByGates : MethodName := ⟨RX9, "heldByGates", "()I"⟩
def dkwX9_heldByGates_2 : List UInt8 := [159, 0, 7, 4, 167, 0, 4, 3, 96, 60, 132, 2, 1, 167, 255, 201, 27, 172]
abbrev dktX9_heldByGates_2 : List UInt8 := dkwX9_heldByGates_2 ++ []
def dkwX9_heldByGates_1 : List UInt8 := [3, 182, 0, 106, 8, 160, 0, 24, 42, 29, 4, 182, 0, 106, 42, 180, 0, 56, 28, 46, 7, 112]
abbrev dktX9_heldByGates_1 : List UInt8 := dkwX9_heldByGates_1 ++ dktX9_heldByGates_2
def dkwX9_heldByGates_0 : List UInt8 := [3, 60, 3, 61, 28, 42, 180, 0, 152, 162, 0, 53, 42, 180, 0, 56, 28, 46, 7, 108, 62, 27, 42, 29]
abbrev dktX9_heldByGates_0 : List UInt8 := dkwX9_heldByGates_0 ++ dktX9_heldByGates_1
theorem dksX9_heldByGates_0 : cX9_heldByGates.data.toList.drop 0 = dktX9_heldByGates_0 := by decide +kernel
theorem dksX9_heldByGates_1 : cX9_heldByGates.data.toList.drop 24 = dktX9_heldByGates_1 := dk_seg dksX9_heldByGates_0 24 rfl rfl
theorem dksX9_heldByGates_2 : cX9_heldByGates.data.toList.drop 46 = dktX9_heldByGates_2 := dk_seg dksX9_heldByGates_1 22 rfl rfl
theorem dX9_heldByGates_0 : decode cX9_heldByGates 0 = .ok (.iconst 0, 1) := dk_3 (dk_at dksX9_heldByGates_0 0 rfl rfl)
theorem dX9_heldByGates_1 : decode cX9_heldByGates 1 = .ok (.istore_n 1, 1) := dk_60 (dk_at dksX9_heldByGates_0 1 rfl rfl)
theorem dX9_heldByGates_2 : decode cX9_heldByGates 2 = .ok (.iconst 0, 1) := dk_3 (dk_at dksX9_heldByGates_0 2 rfl rfl)
theorem dX9_heldByGates_3 : decode cX9_heldByGates 3 = .ok (.istore_n 2, 1) := dk_61 (dk_at dksX9_heldByGates_0 3 rfl rfl)
theorem dX9_heldByGates_4 : decode cX9_heldByGates 4 = .ok (.iload_n 2, 1) := dk_28 (dk_at dksX9_heldByGates_0 4 rfl rfl)
theorem dX9_heldByGates_5 : decode cX9_heldByGates 5 = .ok (.aload_n 0, 1) := dk_42 (dk_at dksX9_heldByGates_0 5 rfl rfl)
theorem dX9_heldByGates_6 : decode cX9_heldByGates 6 = .ok (.getfield 152, 3) := dk_180 0 152 (dk_at dksX9_heldByGates_0 6 rfl rfl)
theorem dX9_heldByGates_9 : decode cX9_heldByGates 9 = .ok (.if_icmp .ge 53, 3) := dk_162 0 53 (dk_at dksX9_heldByGates_0 9 rfl rfl)
theorem dX9_heldByGates_12 : decode cX9_heldByGates 12 = .ok (.aload_n 0, 1) := dk_42 (dk_at dksX9_heldByGates_0 12 rfl rfl)
theorem dX9_heldByGates_13 : decode cX9_heldByGates 13 = .ok (.getfield 56, 3) := dk_180 0 56 (dk_at dksX9_heldByGates_0 13 rfl rfl)
theorem dX9_heldByGates_16 : decode cX9_heldByGates 16 = .ok (.iload_n 2, 1) := dk_28 (dk_at dksX9_heldByGates_0 16 rfl rfl)
theorem dX9_heldByGates_17 : decode cX9_heldByGates 17 = .ok (.iaload, 1) := dk_46 (dk_at dksX9_heldByGates_0 17 rfl rfl)
theorem dX9_heldByGates_18 : decode cX9_heldByGates 18 = .ok (.iconst 4, 1) := dk_7 (dk_at dksX9_heldByGates_0 18 rfl rfl)
theorem dX9_heldByGates_19 : decode cX9_heldByGates 19 = .ok (.idiv, 1) := dk_108 (dk_at dksX9_heldByGates_0 19 rfl rfl)
theorem dX9_heldByGates_20 : decode cX9_heldByGates 20 = .ok (.istore_n 3, 1) := dk_62 (dk_at dksX9_heldByGates_0 20 rfl rfl)
theorem dX9_heldByGates_21 : decode cX9_heldByGates 21 = .ok (.iload_n 1, 1) := dk_27 (dk_at dksX9_heldByGates_0 21 rfl rfl)
theorem dX9_heldByGates_22 : decode cX9_heldByGates 22 = .ok (.aload_n 0, 1) := dk_42 (dk_at dksX9_heldByGates_0 22 rfl rfl)
theorem dX9_heldByGates_23 : decode cX9_heldByGates 23 = .ok (.iload_n 3, 1) := dk_29 (dk_at dksX9_heldByGates_0 23 rfl rfl)
theorem dX9_heldByGates_24 : decode cX9_heldByGates 24 = .ok (.iconst 0, 1) := dk_3 (dk_at dksX9_heldByGates_1 0 rfl rfl)
theorem dX9_heldByGates_25 : decode cX9_heldByGates 25 = .ok (.invokevirtual 106, 3) := dk_182 0 106 (dk_at dksX9_heldByGates_1 1 rfl rfl)
theorem dX9_heldByGates_28 : decode cX9_heldByGates 28 = .ok (.iconst 5, 1) := dk_8 (dk_at dksX9_heldByGates_1 4 rfl rfl)
theorem dX9_heldByGates_29 : decode cX9_heldByGates 29 = .ok (.if_icmp .ne 24, 3) := dk_160 0 24 (dk_at dksX9_heldByGates_1 5 rfl rfl)
theorem dX9_heldByGates_32 : decode cX9_heldByGates 32 = .ok (.aload_n 0, 1) := dk_42 (dk_at dksX9_heldByGates_1 8 rfl rfl)
theorem dX9_heldByGates_33 : decode cX9_heldByGates 33 = .ok (.iload_n 3, 1) := dk_29 (dk_at dksX9_heldByGates_1 9 rfl rfl)
theorem dX9_heldByGates_34 : decode cX9_heldByGates 34 = .ok (.iconst 1, 1) := dk_4 (dk_at dksX9_heldByGates_1 10 rfl rfl)
theorem dX9_heldByGates_35 : decode cX9_heldByGates 35 = .ok (.invokevirtual 106, 3) := dk_182 0 106 (dk_at dksX9_heldByGates_1 11 rfl rfl)
theorem dX9_heldByGates_38 : decode cX9_heldByGates 38 = .ok (.aload_n 0, 1) := dk_42 (dk_at dksX9_heldByGates_1 14 rfl rfl)
theorem dX9_heldByGates_39 : decode cX9_heldByGates 39 = .ok (.getfield 56, 3) := dk_180 0 56 (dk_at dksX9_heldByGates_1 15 rfl rfl)
theorem dX9_heldByGates_42 : decode cX9_heldByGates 42 = .ok (.iload_n 2, 1) := dk_28 (dk_at dksX9_heldByGates_1 18 rfl rfl)
theorem dX9_heldByGates_43 : decode cX9_heldByGates 43 = .ok (.iaload, 1) := dk_46 (dk_at dksX9_heldByGates_1 19 rfl rfl)
theorem dX9_heldByGates_44 : decode cX9_heldByGates 44 = .ok (.iconst 4, 1) := dk_7 (dk_at dksX9_heldByGates_1 20 rfl rfl)
theorem dX9_heldByGates_45 : decode cX9_heldByGates 45 = .ok (.irem, 1) := dk_112 (dk_at dksX9_heldByGates_1 21 rfl rfl)
theorem dX9_heldByGates_46 : decode cX9_heldByGates 46 = .ok (.if_icmp .eq 7, 3) := dk_159 0 7 (dk_at dksX9_heldByGates_2 0 rfl rfl)
theorem dX9_heldByGates_49 : decode cX9_heldByGates 49 = .ok (.iconst 1, 1) := dk_4 (dk_at dksX9_heldByGates_2 3 rfl rfl)
theorem dX9_heldByGates_50 : decode cX9_heldByGates 50 = .ok (.goto 4, 3) := dk_167 0 4 (dk_at dksX9_heldByGates_2 4 rfl rfl)
theorem dX9_heldByGates_53 : decode cX9_heldByGates 53 = .ok (.iconst 0, 1) := dk_3 (dk_at dksX9_heldByGates_2 7 rfl rfl)
theorem dX9_heldByGates_54 : decode cX9_heldByGates 54 = .ok (.iadd, 1) := dk_96 (dk_at dksX9_heldByGates_2 8 rfl rfl)
theorem dX9_heldByGates_55 : decode cX9_heldByGates 55 = .ok (.istore_n 1, 1) := dk_60 (dk_at dksX9_heldByGates_2 9 rfl rfl)
theorem dX9_heldByGates_56 : decode cX9_heldByGates 56 = .ok (.iinc 2 1, 3) := dk_132 2 1 (dk_at dksX9_heldByGates_2 10 rfl rfl)
theorem dX9_heldByGates_59 : decode cX9_heldByGates 59 = .ok (.goto (-55), 3) := dk_167 255 201 (dk_at dksX9_heldByGates_2 13 rfl rfl)
theorem dX9_heldByGates_62 : decode cX9_heldByGates 62 = .ok (.iload_n 1, 1) := dk_27 (dk_at dksX9_heldByGates_2 16 rfl rfl)
theorem dX9_heldByGates_63 : decode cX9_heldByGates 63 = .ok (.ireturn, 1) := dk_172 (dk_at dksX9_heldByGates_2 17 rfl rfl)
abbrev cX9_mostFollowers : ByteArray := prog_15_method_87_code
def yX9_mostFollowers : MethodName := ⟨RX9, "mostFollowers", "()I"⟩
def dkwX9_mostFollowers_1 : List UInt8 := [27, 164, 0, 7, 29, 167, 0, 4, 27, 60, 132, 2, 1, 167, 255, 223, 27, 172]
abbrev dktX9_mostFollowers_1 : List UInt8 := dkwX9_mostFollowers_1 ++ []
def dkwX9_mostFollowers_0 : List UInt8 := [3, 60, 3, 61, 28, 42, 180, 0, 152, 162, 0, 31, 42, 42, 180, 0, 56, 28, 46, 182, 1, 80, 62, 29]
abbrev dktX9_mostFollowers_0 : List UInt8 := dkwX9_mostFollowers_0 ++ dktX9_mostFollowers_1
theorem dksX9_mostFollowers_0 : cX9_mostFollowers.data.toList.drop 0 = dktX9_mostFollowers_0 := by decide +kernel
theorem dksX9_mostFollowers_1 : cX9_mostFollowers.data.toList.drop 24 = dktX9_mostFollowers_1 := dk_seg dksX9_mostFollowers_0 24 rfl rfl
theorem dX9_mostFollowers_0 : decode cX9_mostFollowers 0 = .ok (.iconst 0, 1) := dk_3 (dk_at dksX9_mostFollowers_0 0 rfl rfl)
theorem dX9_mostFollowers_1 : decode cX9_mostFollowers 1 = .ok (.istore_n 1, 1) := dk_60 (dk_at dksX9_mostFollowers_0 1 rfl rfl)
theorem dX9_mostFollowers_2 : decode cX9_mostFollowers 2 = .ok (.iconst 0, 1) := dk_3 (dk_at dksX9_mostFollowers_0 2 rfl rfl)
theorem dX9_mostFollowers_3 : decode cX9_mostFollowers 3 = .ok (.istore_n 2, 1) := dk_61 (dk_at dksX9_mostFollowers_0 3 rfl rfl)
theorem dX9_mostFollowers_4 : decode cX9_mostFollowers 4 = .ok (.iload_n 2, 1) := dk_28 (dk_at dksX9_mostFollowers_0 4 rfl rfl)
theorem dX9_mostFollowers_5 : decode cX9_mostFollowers 5 = .ok (.aload_n 0, 1) := dk_42 (dk_at dksX9_mostFollowers_0 5 rfl rfl)
theorem dX9_mostFollowers_6 : decode cX9_mostFollowers 6 = .ok (.getfield 152, 3) := dk_180 0 152 (dk_at dksX9_mostFollowers_0 6 rfl rfl)
theorem dX9_mostFollowers_9 : decode cX9_mostFollowers 9 = .ok (.if_icmp .ge 31, 3) := dk_162 0 31 (dk_at dksX9_mostFollowers_0 9 rfl rfl)
theorem dX9_mostFollowers_12 : decode cX9_mostFollowers 12 = .ok (.aload_n 0, 1) := dk_42 (dk_at dksX9_mostFollowers_0 12 rfl rfl)
theorem dX9_mostFollowers_13 : decode cX9_mostFollowers 13 = .ok (.aload_n 0, 1) := dk_42 (dk_at dksX9_mostFollowers_0 13 rfl rfl)
theorem dX9_mostFollowers_14 : decode cX9_mostFollowers 14 = .ok (.getfield 56, 3) := dk_180 0 56 (dk_at dksX9_mostFollowers_0 14 rfl rfl)
theorem dX9_mostFollowers_17 : decode cX9_mostFollowers 17 = .ok (.iload_n 2, 1) := dk_28 (dk_at dksX9_mostFollowers_0 17 rfl rfl)
theorem dX9_mostFollowers_18 : decode cX9_mostFollowers 18 = .ok (.iaload, 1) := dk_46 (dk_at dksX9_mostFollowers_0 18 rfl rfl)
theorem dX9_mostFollowers_19 : decode cX9_mostFollowers 19 = .ok (.invokevirtual 336, 3) := dk_182 1 80 (dk_at dksX9_mostFollowers_0 19 rfl rfl)
theorem dX9_mostFollowers_22 : decode cX9_mostFollowers 22 = .ok (.istore_n 3, 1) := dk_62 (dk_at dksX9_mostFollowers_0 22 rfl rfl)
theorem dX9_mostFollowers_23 : decode cX9_mostFollowers 23 = .ok (.iload_n 3, 1) := dk_29 (dk_at dksX9_mostFollowers_0 23 rfl rfl)
theorem dX9_mostFollowers_24 : decode cX9_mostFollowers 24 = .ok (.iload_n 1, 1) := dk_27 (dk_at dksX9_mostFollowers_1 0 rfl rfl)
theorem dX9_mostFollowers_25 : decode cX9_mostFollowers 25 = .ok (.if_icmp .le 7, 3) := dk_164 0 7 (dk_at dksX9_mostFollowers_1 1 rfl rfl)
theorem dX9_mostFollowers_28 : decode cX9_mostFollowers 28 = .ok (.iload_n 3, 1) := dk_29 (dk_at dksX9_mostFollowers_1 4 rfl rfl)
theorem dX9_mostFollowers_29 : decode cX9_mostFollowers 29 = .ok (.goto 4, 3) := dk_167 0 4 (dk_at dksX9_mostFollowers_1 5 rfl rfl)
theorem dX9_mostFollowers_32 : decode cX9_mostFollowers 32 = .ok (.iload_n 1, 1) := dk_27 (dk_at dksX9_mostFollowers_1 8 rfl rfl)
theorem dX9_mostFollowers_33 : decode cX9_mostFollowers 33 = .ok (.istore_n 1, 1) := dk_60 (dk_at dksX9_mostFollowers_1 9 rfl rfl)
theorem dX9_mostFollowers_34 : decode cX9_mostFollowers 34 = .ok (.iinc 2 1, 3) := dk_132 2 1 (dk_at dksX9_mostFollowers_1 10 rfl rfl)
theorem dX9_mostFollowers_37 : decode cX9_mostFollowers 37 = .ok (.goto (-33), 3) := dk_167 255 223 (dk_at dksX9_mostFollowers_1 13 rfl rfl)
theorem dX9_mostFollowers_40 : decode cX9_mostFollowers 40 = .ok (.iload_n 1, 1) := dk_27 (dk_at dksX9_mostFollowers_1 16 rfl rfl)
theorem dX9_mostFollowers_41 : decode cX9_mostFollowers 41 = .ok (.ireturn, 1) := dk_172 (dk_at dksX9_mostFollowers_1 17 rfl rfl)
abbrev cX9_followers : ByteArray := prog_15_method_28_code
def yX9_followers : MethodName := ⟨RX9, "followers", "(I)I"⟩
def dkwX9_followers_1 : List UInt8 := [46, 2, 160, 0, 7, 3, 167, 0, 4, 4, 96, 62, 132, 4, 1, 167, 255, 228, 29, 172]
abbrev dktX9_followers_1 : List UInt8 := dkwX9_followers_1 ++ []
def dkwX9_followers_0 : List UInt8 := [42, 27, 182, 0, 132, 61, 3, 62, 3, 54, 4, 21, 4, 28, 162, 0, 28, 29, 42, 180, 0, 65, 21, 4]
abbrev dktX9_followers_0 : List UInt8 := dkwX9_followers_0 ++ dktX9_followers_1
theorem dksX9_followers_0 : cX9_followers.data.toList.drop 0 = dktX9_followers_0 := by decide +kernel
theorem dksX9_followers_1 : cX9_followers.data.toList.drop 24 = dktX9_followers_1 := dk_seg dksX9_followers_0 24 rfl rfl
theorem dX9_followers_0 : decode cX9_followers 0 = .ok (.aload_n 0, 1) := dk_42 (dk_at dksX9_followers_0 0 rfl rfl)
theorem dX9_followers_1 : decode cX9_followers 1 = .ok (.iload_n 1, 1) := dk_27 (dk_at dksX9_followers_0 1 rfl rfl)
theorem dX9_followers_2 : decode cX9_followers 2 = .ok (.invokevirtual 132, 3) := dk_182 0 132 (dk_at dksX9_followers_0 2 rfl rfl)
theorem dX9_followers_5 : decode cX9_followers 5 = .ok (.istore_n 2, 1) := dk_61 (dk_at dksX9_followers_0 5 rfl rfl)
theorem dX9_followers_6 : decode cX9_followers 6 = .ok (.iconst 0, 1) := dk_3 (dk_at dksX9_followers_0 6 rfl rfl)
theorem dX9_followers_7 : decode cX9_followers 7 = .ok (.istore_n 3, 1) := dk_62 (dk_at dksX9_followers_0 7 rfl rfl)
theorem dX9_followers_8 : decode cX9_followers 8 = .ok (.iconst 0, 1) := dk_3 (dk_at dksX9_followers_0 8 rfl rfl)
theorem dX9_followers_9 : decode cX9_followers 9 = .ok (.istore 4, 2) := dk_54 4 (dk_at dksX9_followers_0 9 rfl rfl)
theorem dX9_followers_11 : decode cX9_followers 11 = .ok (.iload 4, 2) := dk_21 4 (dk_at dksX9_followers_0 11 rfl rfl)
theorem dX9_followers_13 : decode cX9_followers 13 = .ok (.iload_n 2, 1) := dk_28 (dk_at dksX9_followers_0 13 rfl rfl)
theorem dX9_followers_14 : decode cX9_followers 14 = .ok (.if_icmp .ge 28, 3) := dk_162 0 28 (dk_at dksX9_followers_0 14 rfl rfl)
theorem dX9_followers_17 : decode cX9_followers 17 = .ok (.iload_n 3, 1) := dk_29 (dk_at dksX9_followers_0 17 rfl rfl)
theorem dX9_followers_18 : decode cX9_followers 18 = .ok (.aload_n 0, 1) := dk_42 (dk_at dksX9_followers_0 18 rfl rfl)
theorem dX9_followers_19 : decode cX9_followers 19 = .ok (.getfield 65, 3) := dk_180 0 65 (dk_at dksX9_followers_0 19 rfl rfl)
theorem dX9_followers_22 : decode cX9_followers 22 = .ok (.iload 4, 2) := dk_21 4 (dk_at dksX9_followers_0 22 rfl rfl)
theorem dX9_followers_24 : decode cX9_followers 24 = .ok (.iaload, 1) := dk_46 (dk_at dksX9_followers_1 0 rfl rfl)
theorem dX9_followers_25 : decode cX9_followers 25 = .ok (.iconst (-1), 1) := dk_2 (dk_at dksX9_followers_1 1 rfl rfl)
theorem dX9_followers_26 : decode cX9_followers 26 = .ok (.if_icmp .ne 7, 3) := dk_160 0 7 (dk_at dksX9_followers_1 2 rfl rfl)
theorem dX9_followers_29 : decode cX9_followers 29 = .ok (.iconst 0, 1) := dk_3 (dk_at dksX9_followers_1 5 rfl rfl)
theorem dX9_followers_30 : decode cX9_followers 30 = .ok (.goto 4, 3) := dk_167 0 4 (dk_at dksX9_followers_1 6 rfl rfl)
theorem dX9_followers_33 : decode cX9_followers 33 = .ok (.iconst 1, 1) := dk_4 (dk_at dksX9_followers_1 9 rfl rfl)
theorem dX9_followers_34 : decode cX9_followers 34 = .ok (.iadd, 1) := dk_96 (dk_at dksX9_followers_1 10 rfl rfl)
theorem dX9_followers_35 : decode cX9_followers 35 = .ok (.istore_n 3, 1) := dk_62 (dk_at dksX9_followers_1 11 rfl rfl)
theorem dX9_followers_36 : decode cX9_followers 36 = .ok (.iinc 4 1, 3) := dk_132 4 1 (dk_at dksX9_followers_1 12 rfl rfl)
theorem dX9_followers_39 : decode cX9_followers 39 = .ok (.goto (-28), 3) := dk_167 255 228 (dk_at dksX9_followers_1 15 rfl rfl)
theorem dX9_followers_42 : decode cX9_followers 42 = .ok (.iload_n 3, 1) := dk_29 (dk_at dksX9_followers_1 18 rfl rfl)
theorem dX9_followers_43 : decode cX9_followers 43 = .ok (.ireturn, 1) := dk_172 (dk_at dksX9_followers_1 19 rfl rfl)
abbrev cX9_beam : ByteArray := prog_15_method_89_code
def yX9_beam : MethodName := ⟨RX9, "beam", "(II)I"⟩
def dkwX9_beam_4 : List UInt8 := [4, 167, 0, 4, 3, 172, 42, 29, 182, 1, 80, 172]
abbrev dktX9_beam_4 : List UInt8 := dkwX9_beam_4 ++ []
def dkwX9_beam_3 : List UInt8 := [29, 7, 108, 16, 10, 112, 172, 29, 16, 40, 108, 172, 29, 7, 112, 172, 42, 29, 182, 1, 77, 153, 0, 7]
abbrev dktX9_beam_3 : List UInt8 := dkwX9_beam_3 ++ dktX9_beam_4
def dkwX9_beam_2 : List UInt8 := [170, 0, 0, 0, 0, 60, 0, 0, 0, 0, 0, 0, 0, 3, 0, 0, 0, 30, 0, 0, 0, 37, 0, 0, 0, 42, 0, 0, 0, 46]
abbrev dktX9_beam_2 : List UInt8 := dkwX9_beam_2 ++ dktX9_beam_3
def dkwX9_beam_1 : List UInt8 := [154, 0, 14, 42, 28, 3, 7, 5, 182, 0, 201, 153, 0, 5, 3, 172, 42, 180, 0, 56, 27, 46, 62, 28]
abbrev dktX9_beam_1 : List UInt8 := dkwX9_beam_1 ++ dktX9_beam_2
def dkwX9_beam_0 : List UInt8 := [42, 3, 181, 0, 83, 42, 182, 1, 83, 42, 27, 3, 42, 180, 0, 152, 4, 100, 4, 182, 0, 201]
abbrev dktX9_beam_0 : List UInt8 := dkwX9_beam_0 ++ dktX9_beam_1
theorem dksX9_beam_0 : cX9_beam.data.toList.drop 0 = dktX9_beam_0 := by decide +kernel
theorem dksX9_beam_1 : cX9_beam.data.toList.drop 22 = dktX9_beam_1 := dk_seg dksX9_beam_0 22 rfl rfl
theorem dksX9_beam_2 : cX9_beam.data.toList.drop 46 = dktX9_beam_2 := dk_seg dksX9_beam_1 24 rfl rfl
theorem dksX9_beam_3 : cX9_beam.data.toList.drop 76 = dktX9_beam_3 := dk_seg dksX9_beam_2 30 rfl rfl
theorem dksX9_beam_4 : cX9_beam.data.toList.drop 100 = dktX9_beam_4 := dk_seg dksX9_beam_3 24 rfl rfl
theorem dX9_beam_0 : decode cX9_beam 0 = .ok (.aload_n 0, 1) := dk_42 (dk_at dksX9_beam_0 0 rfl rfl)
theorem dX9_beam_1 : decode cX9_beam 1 = .ok (.iconst 0, 1) := dk_3 (dk_at dksX9_beam_0 1 rfl rfl)
theorem dX9_beam_2 : decode cX9_beam 2 = .ok (.putfield 83, 3) := dk_181 0 83 (dk_at dksX9_beam_0 2 rfl rfl)
theorem dX9_beam_5 : decode cX9_beam 5 = .ok (.aload_n 0, 1) := dk_42 (dk_at dksX9_beam_0 5 rfl rfl)
theorem dX9_beam_6 : decode cX9_beam 6 = .ok (.invokevirtual 339, 3) := dk_182 1 83 (dk_at dksX9_beam_0 6 rfl rfl)
theorem dX9_beam_9 : decode cX9_beam 9 = .ok (.aload_n 0, 1) := dk_42 (dk_at dksX9_beam_0 9 rfl rfl)
theorem dX9_beam_10 : decode cX9_beam 10 = .ok (.iload_n 1, 1) := dk_27 (dk_at dksX9_beam_0 10 rfl rfl)
theorem dX9_beam_11 : decode cX9_beam 11 = .ok (.iconst 0, 1) := dk_3 (dk_at dksX9_beam_0 11 rfl rfl)
theorem dX9_beam_12 : decode cX9_beam 12 = .ok (.aload_n 0, 1) := dk_42 (dk_at dksX9_beam_0 12 rfl rfl)
theorem dX9_beam_13 : decode cX9_beam 13 = .ok (.getfield 152, 3) := dk_180 0 152 (dk_at dksX9_beam_0 13 rfl rfl)
theorem dX9_beam_16 : decode cX9_beam 16 = .ok (.iconst 1, 1) := dk_4 (dk_at dksX9_beam_0 16 rfl rfl)
theorem dX9_beam_17 : decode cX9_beam 17 = .ok (.isub, 1) := dk_100 (dk_at dksX9_beam_0 17 rfl rfl)
theorem dX9_beam_18 : decode cX9_beam 18 = .ok (.iconst 1, 1) := dk_4 (dk_at dksX9_beam_0 18 rfl rfl)
theorem dX9_beam_19 : decode cX9_beam 19 = .ok (.invokevirtual 201, 3) := dk_182 0 201 (dk_at dksX9_beam_0 19 rfl rfl)
theorem dX9_beam_22 : decode cX9_beam 22 = .ok (.ifCond .ne 14, 3) := dk_154 0 14 (dk_at dksX9_beam_1 0 rfl rfl)
theorem dX9_beam_25 : decode cX9_beam 25 = .ok (.aload_n 0, 1) := dk_42 (dk_at dksX9_beam_1 3 rfl rfl)
theorem dX9_beam_26 : decode cX9_beam 26 = .ok (.iload_n 2, 1) := dk_28 (dk_at dksX9_beam_1 4 rfl rfl)
theorem dX9_beam_27 : decode cX9_beam 27 = .ok (.iconst 0, 1) := dk_3 (dk_at dksX9_beam_1 5 rfl rfl)
theorem dX9_beam_28 : decode cX9_beam 28 = .ok (.iconst 4, 1) := dk_7 (dk_at dksX9_beam_1 6 rfl rfl)
theorem dX9_beam_29 : decode cX9_beam 29 = .ok (.iconst 2, 1) := dk_5 (dk_at dksX9_beam_1 7 rfl rfl)
theorem dX9_beam_30 : decode cX9_beam 30 = .ok (.invokevirtual 201, 3) := dk_182 0 201 (dk_at dksX9_beam_1 8 rfl rfl)
theorem dX9_beam_33 : decode cX9_beam 33 = .ok (.ifCond .eq 5, 3) := dk_153 0 5 (dk_at dksX9_beam_1 11 rfl rfl)
theorem dX9_beam_36 : decode cX9_beam 36 = .ok (.iconst 0, 1) := dk_3 (dk_at dksX9_beam_1 14 rfl rfl)
theorem dX9_beam_37 : decode cX9_beam 37 = .ok (.ireturn, 1) := dk_172 (dk_at dksX9_beam_1 15 rfl rfl)
theorem dX9_beam_38 : decode cX9_beam 38 = .ok (.aload_n 0, 1) := dk_42 (dk_at dksX9_beam_1 16 rfl rfl)
theorem dX9_beam_39 : decode cX9_beam 39 = .ok (.getfield 56, 3) := dk_180 0 56 (dk_at dksX9_beam_1 17 rfl rfl)
theorem dX9_beam_42 : decode cX9_beam 42 = .ok (.iload_n 1, 1) := dk_27 (dk_at dksX9_beam_1 20 rfl rfl)
theorem dX9_beam_43 : decode cX9_beam 43 = .ok (.iaload, 1) := dk_46 (dk_at dksX9_beam_1 21 rfl rfl)
theorem dX9_beam_44 : decode cX9_beam 44 = .ok (.istore_n 3, 1) := dk_62 (dk_at dksX9_beam_1 22 rfl rfl)
theorem dX9_beam_45 : decode cX9_beam 45 = .ok (.iload_n 2, 1) := dk_28 (dk_at dksX9_beam_1 23 rfl rfl)
theorem dX9_beam_46 : decode cX9_beam 46 = .ok (.tableswitch 60 0 3 #[30, 37, 42, 46], 30) := by decide +kernel
theorem dX9_beam_76 : decode cX9_beam 76 = .ok (.iload_n 3, 1) := dk_29 (dk_at dksX9_beam_3 0 rfl rfl)
theorem dX9_beam_77 : decode cX9_beam 77 = .ok (.iconst 4, 1) := dk_7 (dk_at dksX9_beam_3 1 rfl rfl)
theorem dX9_beam_78 : decode cX9_beam 78 = .ok (.idiv, 1) := dk_108 (dk_at dksX9_beam_3 2 rfl rfl)
theorem dX9_beam_79 : decode cX9_beam 79 = .ok (.bipush 10, 2) := dk_16 10 (dk_at dksX9_beam_3 3 rfl rfl)
theorem dX9_beam_81 : decode cX9_beam 81 = .ok (.irem, 1) := dk_112 (dk_at dksX9_beam_3 5 rfl rfl)
theorem dX9_beam_82 : decode cX9_beam 82 = .ok (.ireturn, 1) := dk_172 (dk_at dksX9_beam_3 6 rfl rfl)
theorem dX9_beam_83 : decode cX9_beam 83 = .ok (.iload_n 3, 1) := dk_29 (dk_at dksX9_beam_3 7 rfl rfl)
theorem dX9_beam_84 : decode cX9_beam 84 = .ok (.bipush 40, 2) := dk_16 40 (dk_at dksX9_beam_3 8 rfl rfl)
theorem dX9_beam_86 : decode cX9_beam 86 = .ok (.idiv, 1) := dk_108 (dk_at dksX9_beam_3 10 rfl rfl)
theorem dX9_beam_87 : decode cX9_beam 87 = .ok (.ireturn, 1) := dk_172 (dk_at dksX9_beam_3 11 rfl rfl)
theorem dX9_beam_88 : decode cX9_beam 88 = .ok (.iload_n 3, 1) := dk_29 (dk_at dksX9_beam_3 12 rfl rfl)
theorem dX9_beam_89 : decode cX9_beam 89 = .ok (.iconst 4, 1) := dk_7 (dk_at dksX9_beam_3 13 rfl rfl)
theorem dX9_beam_90 : decode cX9_beam 90 = .ok (.irem, 1) := dk_112 (dk_at dksX9_beam_3 14 rfl rfl)
theorem dX9_beam_91 : decode cX9_beam 91 = .ok (.ireturn, 1) := dk_172 (dk_at dksX9_beam_3 15 rfl rfl)
theorem dX9_beam_92 : decode cX9_beam 92 = .ok (.aload_n 0, 1) := dk_42 (dk_at dksX9_beam_3 16 rfl rfl)
theorem dX9_beam_93 : decode cX9_beam 93 = .ok (.iload_n 3, 1) := dk_29 (dk_at dksX9_beam_3 17 rfl rfl)
theorem dX9_beam_94 : decode cX9_beam 94 = .ok (.invokevirtual 333, 3) := dk_182 1 77 (dk_at dksX9_beam_3 18 rfl rfl)
theorem dX9_beam_97 : decode cX9_beam 97 = .ok (.ifCond .eq 7, 3) := dk_153 0 7 (dk_at dksX9_beam_3 21 rfl rfl)
theorem dX9_beam_100 : decode cX9_beam 100 = .ok (.iconst 1, 1) := dk_4 (dk_at dksX9_beam_4 0 rfl rfl)
theorem dX9_beam_101 : decode cX9_beam 101 = .ok (.goto 4, 3) := dk_167 0 4 (dk_at dksX9_beam_4 1 rfl rfl)
theorem dX9_beam_104 : decode cX9_beam 104 = .ok (.iconst 0, 1) := dk_3 (dk_at dksX9_beam_4 4 rfl rfl)
theorem dX9_beam_105 : decode cX9_beam 105 = .ok (.ireturn, 1) := dk_172 (dk_at dksX9_beam_4 5 rfl rfl)
theorem dX9_beam_106 : decode cX9_beam 106 = .ok (.aload_n 0, 1) := dk_42 (dk_at dksX9_beam_4 6 rfl rfl)
theorem dX9_beam_107 : decode cX9_beam 107 = .ok (.iload_n 3, 1) := dk_29 (dk_at dksX9_beam_4 7 rfl rfl)
theorem dX9_beam_108 : decode cX9_beam 108 = .ok (.invokevirtual 336, 3) := dk_182 1 80 (dk_at dksX9_beam_4 8 rfl rfl)
theorem dX9_beam_111 : decode cX9_beam 111 = .ok (.ireturn, 1) := dk_172 (dk_at dksX9_beam_4 11 rfl rfl)
abbrev cX9_stepsTo : ByteArray := prog_15_method_91_code
def yX9_stepsTo : MethodName := ⟨RX9, "stepsTo", "(I)I"⟩
def dkwX9_stepsTo_1 : List UInt8 := [182, 0, 120, 182, 1, 98, 172]
abbrev dktX9_stepsTo_1 : List UInt8 := dkwX9_stepsTo_1 ++ []
def dkwX9_stepsTo_0 : List UInt8 := [42, 3, 181, 0, 83, 42, 27, 182, 1, 74, 153, 0, 5, 3, 172, 42, 182, 1, 83, 42, 42, 27, 7]
abbrev dktX9_stepsTo_0 : List UInt8 := dkwX9_stepsTo_0 ++ dktX9_stepsTo_1
theorem dksX9_stepsTo_0 : cX9_stepsTo.data.toList.drop 0 = dktX9_stepsTo_0 := by decide +kernel
theorem dksX9_stepsTo_1 : cX9_stepsTo.data.toList.drop 23 = dktX9_stepsTo_1 := dk_seg dksX9_stepsTo_0 23 rfl rfl
theorem dX9_stepsTo_0 : decode cX9_stepsTo 0 = .ok (.aload_n 0, 1) := dk_42 (dk_at dksX9_stepsTo_0 0 rfl rfl)
theorem dX9_stepsTo_1 : decode cX9_stepsTo 1 = .ok (.iconst 0, 1) := dk_3 (dk_at dksX9_stepsTo_0 1 rfl rfl)
theorem dX9_stepsTo_2 : decode cX9_stepsTo 2 = .ok (.putfield 83, 3) := dk_181 0 83 (dk_at dksX9_stepsTo_0 2 rfl rfl)
theorem dX9_stepsTo_5 : decode cX9_stepsTo 5 = .ok (.aload_n 0, 1) := dk_42 (dk_at dksX9_stepsTo_0 5 rfl rfl)
theorem dX9_stepsTo_6 : decode cX9_stepsTo 6 = .ok (.iload_n 1, 1) := dk_27 (dk_at dksX9_stepsTo_0 6 rfl rfl)
theorem dX9_stepsTo_7 : decode cX9_stepsTo 7 = .ok (.invokevirtual 330, 3) := dk_182 1 74 (dk_at dksX9_stepsTo_0 7 rfl rfl)
theorem dX9_stepsTo_10 : decode cX9_stepsTo 10 = .ok (.ifCond .eq 5, 3) := dk_153 0 5 (dk_at dksX9_stepsTo_0 10 rfl rfl)
theorem dX9_stepsTo_13 : decode cX9_stepsTo 13 = .ok (.iconst 0, 1) := dk_3 (dk_at dksX9_stepsTo_0 13 rfl rfl)
theorem dX9_stepsTo_14 : decode cX9_stepsTo 14 = .ok (.ireturn, 1) := dk_172 (dk_at dksX9_stepsTo_0 14 rfl rfl)
theorem dX9_stepsTo_15 : decode cX9_stepsTo 15 = .ok (.aload_n 0, 1) := dk_42 (dk_at dksX9_stepsTo_0 15 rfl rfl)
theorem dX9_stepsTo_16 : decode cX9_stepsTo 16 = .ok (.invokevirtual 339, 3) := dk_182 1 83 (dk_at dksX9_stepsTo_0 16 rfl rfl)
theorem dX9_stepsTo_19 : decode cX9_stepsTo 19 = .ok (.aload_n 0, 1) := dk_42 (dk_at dksX9_stepsTo_0 19 rfl rfl)
theorem dX9_stepsTo_20 : decode cX9_stepsTo 20 = .ok (.aload_n 0, 1) := dk_42 (dk_at dksX9_stepsTo_0 20 rfl rfl)
theorem dX9_stepsTo_21 : decode cX9_stepsTo 21 = .ok (.iload_n 1, 1) := dk_27 (dk_at dksX9_stepsTo_0 21 rfl rfl)
theorem dX9_stepsTo_22 : decode cX9_stepsTo 22 = .ok (.iconst 4, 1) := dk_7 (dk_at dksX9_stepsTo_0 22 rfl rfl)
theorem dX9_stepsTo_23 : decode cX9_stepsTo 23 = .ok (.invokevirtual 120, 3) := dk_182 0 120 (dk_at dksX9_stepsTo_1 0 rfl rfl)
theorem dX9_stepsTo_26 : decode cX9_stepsTo 26 = .ok (.invokevirtual 354, 3) := dk_182 1 98 (dk_at dksX9_stepsTo_1 3 rfl rfl)
theorem dX9_stepsTo_29 : decode cX9_stepsTo 29 = .ok (.ireturn, 1) := dk_172 (dk_at dksX9_stepsTo_1 6 rfl rfl)
abbrev cX9_leastSteps : ByteArray := prog_15_method_90_code
def yX9_leastSteps : MethodName := ⟨RX9, "leastSteps", "(I)I"⟩
def dkwX9_leastSteps_2 : List UInt8 := [132, 3, 1, 167, 255, 211, 28, 172]
abbrev dktX9_leastSteps_2 : List UInt8 := dkwX9_leastSteps_2 ++ []
def dkwX9_leastSteps_1 : List UInt8 := [28, 2, 159, 0, 13, 42, 180, 0, 59, 29, 46, 28, 162, 0, 10, 42, 180, 0, 59, 29, 46, 61]
abbrev dktX9_leastSteps_1 : List UInt8 := dkwX9_leastSteps_1 ++ dktX9_leastSteps_2
def dkwX9_leastSteps_0 : List UInt8 := [2, 61, 3, 62, 29, 42, 180, 0, 152, 162, 0, 43, 42, 180, 0, 56, 29, 46, 7, 108, 27, 160, 0, 25]
abbrev dktX9_leastSteps_0 : List UInt8 := dkwX9_leastSteps_0 ++ dktX9_leastSteps_1
theorem dksX9_leastSteps_0 : cX9_leastSteps.data.toList.drop 0 = dktX9_leastSteps_0 := by decide +kernel
theorem dksX9_leastSteps_1 : cX9_leastSteps.data.toList.drop 24 = dktX9_leastSteps_1 := dk_seg dksX9_leastSteps_0 24 rfl rfl
theorem dksX9_leastSteps_2 : cX9_leastSteps.data.toList.drop 46 = dktX9_leastSteps_2 := dk_seg dksX9_leastSteps_1 22 rfl rfl
theorem dX9_leastSteps_0 : decode cX9_leastSteps 0 = .ok (.iconst (-1), 1) := dk_2 (dk_at dksX9_leastSteps_0 0 rfl rfl)
theorem dX9_leastSteps_1 : decode cX9_leastSteps 1 = .ok (.istore_n 2, 1) := dk_61 (dk_at dksX9_leastSteps_0 1 rfl rfl)
theorem dX9_leastSteps_2 : decode cX9_leastSteps 2 = .ok (.iconst 0, 1) := dk_3 (dk_at dksX9_leastSteps_0 2 rfl rfl)
theorem dX9_leastSteps_3 : decode cX9_leastSteps 3 = .ok (.istore_n 3, 1) := dk_62 (dk_at dksX9_leastSteps_0 3 rfl rfl)
theorem dX9_leastSteps_4 : decode cX9_leastSteps 4 = .ok (.iload_n 3, 1) := dk_29 (dk_at dksX9_leastSteps_0 4 rfl rfl)
theorem dX9_leastSteps_5 : decode cX9_leastSteps 5 = .ok (.aload_n 0, 1) := dk_42 (dk_at dksX9_leastSteps_0 5 rfl rfl)
theorem dX9_leastSteps_6 : decode cX9_leastSteps 6 = .ok (.getfield 152, 3) := dk_180 0 152 (dk_at dksX9_leastSteps_0 6 rfl rfl)
theorem dX9_leastSteps_9 : decode cX9_leastSteps 9 = .ok (.if_icmp .ge 43, 3) := dk_162 0 43 (dk_at dksX9_leastSteps_0 9 rfl rfl)
theorem dX9_leastSteps_12 : decode cX9_leastSteps 12 = .ok (.aload_n 0, 1) := dk_42 (dk_at dksX9_leastSteps_0 12 rfl rfl)
theorem dX9_leastSteps_13 : decode cX9_leastSteps 13 = .ok (.getfield 56, 3) := dk_180 0 56 (dk_at dksX9_leastSteps_0 13 rfl rfl)
theorem dX9_leastSteps_16 : decode cX9_leastSteps 16 = .ok (.iload_n 3, 1) := dk_29 (dk_at dksX9_leastSteps_0 16 rfl rfl)
theorem dX9_leastSteps_17 : decode cX9_leastSteps 17 = .ok (.iaload, 1) := dk_46 (dk_at dksX9_leastSteps_0 17 rfl rfl)
theorem dX9_leastSteps_18 : decode cX9_leastSteps 18 = .ok (.iconst 4, 1) := dk_7 (dk_at dksX9_leastSteps_0 18 rfl rfl)
theorem dX9_leastSteps_19 : decode cX9_leastSteps 19 = .ok (.idiv, 1) := dk_108 (dk_at dksX9_leastSteps_0 19 rfl rfl)
theorem dX9_leastSteps_20 : decode cX9_leastSteps 20 = .ok (.iload_n 1, 1) := dk_27 (dk_at dksX9_leastSteps_0 20 rfl rfl)
theorem dX9_leastSteps_21 : decode cX9_leastSteps 21 = .ok (.if_icmp .ne 25, 3) := dk_160 0 25 (dk_at dksX9_leastSteps_0 21 rfl rfl)
theorem dX9_leastSteps_24 : decode cX9_leastSteps 24 = .ok (.iload_n 2, 1) := dk_28 (dk_at dksX9_leastSteps_1 0 rfl rfl)
theorem dX9_leastSteps_25 : decode cX9_leastSteps 25 = .ok (.iconst (-1), 1) := dk_2 (dk_at dksX9_leastSteps_1 1 rfl rfl)
theorem dX9_leastSteps_26 : decode cX9_leastSteps 26 = .ok (.if_icmp .eq 13, 3) := dk_159 0 13 (dk_at dksX9_leastSteps_1 2 rfl rfl)
theorem dX9_leastSteps_29 : decode cX9_leastSteps 29 = .ok (.aload_n 0, 1) := dk_42 (dk_at dksX9_leastSteps_1 5 rfl rfl)
theorem dX9_leastSteps_30 : decode cX9_leastSteps 30 = .ok (.getfield 59, 3) := dk_180 0 59 (dk_at dksX9_leastSteps_1 6 rfl rfl)
theorem dX9_leastSteps_33 : decode cX9_leastSteps 33 = .ok (.iload_n 3, 1) := dk_29 (dk_at dksX9_leastSteps_1 9 rfl rfl)
theorem dX9_leastSteps_34 : decode cX9_leastSteps 34 = .ok (.iaload, 1) := dk_46 (dk_at dksX9_leastSteps_1 10 rfl rfl)
theorem dX9_leastSteps_35 : decode cX9_leastSteps 35 = .ok (.iload_n 2, 1) := dk_28 (dk_at dksX9_leastSteps_1 11 rfl rfl)
theorem dX9_leastSteps_36 : decode cX9_leastSteps 36 = .ok (.if_icmp .ge 10, 3) := dk_162 0 10 (dk_at dksX9_leastSteps_1 12 rfl rfl)
theorem dX9_leastSteps_39 : decode cX9_leastSteps 39 = .ok (.aload_n 0, 1) := dk_42 (dk_at dksX9_leastSteps_1 15 rfl rfl)
theorem dX9_leastSteps_40 : decode cX9_leastSteps 40 = .ok (.getfield 59, 3) := dk_180 0 59 (dk_at dksX9_leastSteps_1 16 rfl rfl)
theorem dX9_leastSteps_43 : decode cX9_leastSteps 43 = .ok (.iload_n 3, 1) := dk_29 (dk_at dksX9_leastSteps_1 19 rfl rfl)
theorem dX9_leastSteps_44 : decode cX9_leastSteps 44 = .ok (.iaload, 1) := dk_46 (dk_at dksX9_leastSteps_1 20 rfl rfl)
theorem dX9_leastSteps_45 : decode cX9_leastSteps 45 = .ok (.istore_n 2, 1) := dk_61 (dk_at dksX9_leastSteps_1 21 rfl rfl)
theorem dX9_leastSteps_46 : decode cX9_leastSteps 46 = .ok (.iinc 3 1, 3) := dk_132 3 1 (dk_at dksX9_leastSteps_2 0 rfl rfl)
theorem dX9_leastSteps_49 : decode cX9_leastSteps 49 = .ok (.goto (-45), 3) := dk_167 255 211 (dk_at dksX9_leastSteps_2 3 rfl rfl)
theorem dX9_leastSteps_52 : decode cX9_leastSteps 52 = .ok (.iload_n 2, 1) := dk_28 (dk_at dksX9_leastSteps_2 6 rfl rfl)
theorem dX9_leastSteps_53 : decode cX9_leastSteps 53 = .ok (.ireturn, 1) := dk_172 (dk_at dksX9_leastSteps_2 7 rfl rfl)
abbrev cX9_whyNot : ByteArray := prog_15_method_92_code
def yX9_whyNot : MethodName := ⟨RX9, "whyNot", "(III)I"⟩
def dkwX9_whyNot_5 : List UInt8 := [6, 182, 0, 106, 172, 2, 172]
abbrev dktX9_whyNot_5 : List UInt8 := dkwX9_whyNot_5 ++ []
def dkwX9_whyNot_4 : List UInt8 := [42, 182, 1, 68, 172, 42, 21, 4, 3, 182, 0, 106, 172, 42, 21, 4, 5, 182, 0, 106, 172, 42, 21, 4]
abbrev dktX9_whyNot_4 : List UInt8 := dkwX9_whyNot_4 ++ dktX9_whyNot_5
def dkwX9_whyNot_3 : List UInt8 := [170, 0, 0, 0, 0, 0, 0, 61, 0, 0, 0, 6, 0, 0, 0, 9, 0, 0, 0, 32, 0, 0, 0, 37, 0, 0, 0, 45, 0, 0, 0, 53]
abbrev dktX9_whyNot_3 : List UInt8 := dkwX9_whyNot_3 ++ dktX9_whyNot_4
def dkwX9_whyNot_2 : List UInt8 := [154, 0, 6, 21, 5, 172, 21, 5]
abbrev dktX9_whyNot_2 : List UInt8 := dkwX9_whyNot_2 ++ dktX9_whyNot_3
def dkwX9_whyNot_1 : List UInt8 := [153, 0, 5, 3, 172, 42, 27, 28, 182, 0, 102, 54, 4, 42, 21, 4, 182, 0, 184, 54, 5, 29]
abbrev dktX9_whyNot_1 : List UInt8 := dkwX9_whyNot_1 ++ dktX9_whyNot_2
def dkwX9_whyNot_0 : List UInt8 := [42, 3, 181, 0, 83, 42, 27, 28, 182, 0, 191, 154, 0, 14, 42, 29, 3, 4, 5, 182, 0, 201]
abbrev dktX9_whyNot_0 : List UInt8 := dkwX9_whyNot_0 ++ dktX9_whyNot_1
theorem dksX9_whyNot_0 : cX9_whyNot.data.toList.drop 0 = dktX9_whyNot_0 := by decide +kernel
theorem dksX9_whyNot_1 : cX9_whyNot.data.toList.drop 22 = dktX9_whyNot_1 := dk_seg dksX9_whyNot_0 22 rfl rfl
theorem dksX9_whyNot_2 : cX9_whyNot.data.toList.drop 44 = dktX9_whyNot_2 := dk_seg dksX9_whyNot_1 22 rfl rfl
theorem dksX9_whyNot_3 : cX9_whyNot.data.toList.drop 52 = dktX9_whyNot_3 := dk_seg dksX9_whyNot_2 8 rfl rfl
theorem dksX9_whyNot_4 : cX9_whyNot.data.toList.drop 84 = dktX9_whyNot_4 := dk_seg dksX9_whyNot_3 32 rfl rfl
theorem dksX9_whyNot_5 : cX9_whyNot.data.toList.drop 108 = dktX9_whyNot_5 := dk_seg dksX9_whyNot_4 24 rfl rfl
theorem dX9_whyNot_0 : decode cX9_whyNot 0 = .ok (.aload_n 0, 1) := dk_42 (dk_at dksX9_whyNot_0 0 rfl rfl)
theorem dX9_whyNot_1 : decode cX9_whyNot 1 = .ok (.iconst 0, 1) := dk_3 (dk_at dksX9_whyNot_0 1 rfl rfl)
theorem dX9_whyNot_2 : decode cX9_whyNot 2 = .ok (.putfield 83, 3) := dk_181 0 83 (dk_at dksX9_whyNot_0 2 rfl rfl)
theorem dX9_whyNot_5 : decode cX9_whyNot 5 = .ok (.aload_n 0, 1) := dk_42 (dk_at dksX9_whyNot_0 5 rfl rfl)
theorem dX9_whyNot_6 : decode cX9_whyNot 6 = .ok (.iload_n 1, 1) := dk_27 (dk_at dksX9_whyNot_0 6 rfl rfl)
theorem dX9_whyNot_7 : decode cX9_whyNot 7 = .ok (.iload_n 2, 1) := dk_28 (dk_at dksX9_whyNot_0 7 rfl rfl)
theorem dX9_whyNot_8 : decode cX9_whyNot 8 = .ok (.invokevirtual 191, 3) := dk_182 0 191 (dk_at dksX9_whyNot_0 8 rfl rfl)
theorem dX9_whyNot_11 : decode cX9_whyNot 11 = .ok (.ifCond .ne 14, 3) := dk_154 0 14 (dk_at dksX9_whyNot_0 11 rfl rfl)
theorem dX9_whyNot_14 : decode cX9_whyNot 14 = .ok (.aload_n 0, 1) := dk_42 (dk_at dksX9_whyNot_0 14 rfl rfl)
theorem dX9_whyNot_15 : decode cX9_whyNot 15 = .ok (.iload_n 3, 1) := dk_29 (dk_at dksX9_whyNot_0 15 rfl rfl)
theorem dX9_whyNot_16 : decode cX9_whyNot 16 = .ok (.iconst 0, 1) := dk_3 (dk_at dksX9_whyNot_0 16 rfl rfl)
theorem dX9_whyNot_17 : decode cX9_whyNot 17 = .ok (.iconst 1, 1) := dk_4 (dk_at dksX9_whyNot_0 17 rfl rfl)
theorem dX9_whyNot_18 : decode cX9_whyNot 18 = .ok (.iconst 2, 1) := dk_5 (dk_at dksX9_whyNot_0 18 rfl rfl)
theorem dX9_whyNot_19 : decode cX9_whyNot 19 = .ok (.invokevirtual 201, 3) := dk_182 0 201 (dk_at dksX9_whyNot_0 19 rfl rfl)
theorem dX9_whyNot_22 : decode cX9_whyNot 22 = .ok (.ifCond .eq 5, 3) := dk_153 0 5 (dk_at dksX9_whyNot_1 0 rfl rfl)
theorem dX9_whyNot_25 : decode cX9_whyNot 25 = .ok (.iconst 0, 1) := dk_3 (dk_at dksX9_whyNot_1 3 rfl rfl)
theorem dX9_whyNot_26 : decode cX9_whyNot 26 = .ok (.ireturn, 1) := dk_172 (dk_at dksX9_whyNot_1 4 rfl rfl)
theorem dX9_whyNot_27 : decode cX9_whyNot 27 = .ok (.aload_n 0, 1) := dk_42 (dk_at dksX9_whyNot_1 5 rfl rfl)
theorem dX9_whyNot_28 : decode cX9_whyNot 28 = .ok (.iload_n 1, 1) := dk_27 (dk_at dksX9_whyNot_1 6 rfl rfl)
theorem dX9_whyNot_29 : decode cX9_whyNot 29 = .ok (.iload_n 2, 1) := dk_28 (dk_at dksX9_whyNot_1 7 rfl rfl)
theorem dX9_whyNot_30 : decode cX9_whyNot 30 = .ok (.invokevirtual 102, 3) := dk_182 0 102 (dk_at dksX9_whyNot_1 8 rfl rfl)
theorem dX9_whyNot_33 : decode cX9_whyNot 33 = .ok (.istore 4, 2) := dk_54 4 (dk_at dksX9_whyNot_1 11 rfl rfl)
theorem dX9_whyNot_35 : decode cX9_whyNot 35 = .ok (.aload_n 0, 1) := dk_42 (dk_at dksX9_whyNot_1 13 rfl rfl)
theorem dX9_whyNot_36 : decode cX9_whyNot 36 = .ok (.iload 4, 2) := dk_21 4 (dk_at dksX9_whyNot_1 14 rfl rfl)
theorem dX9_whyNot_38 : decode cX9_whyNot 38 = .ok (.invokevirtual 184, 3) := dk_182 0 184 (dk_at dksX9_whyNot_1 16 rfl rfl)
theorem dX9_whyNot_41 : decode cX9_whyNot 41 = .ok (.istore 5, 2) := dk_54 5 (dk_at dksX9_whyNot_1 19 rfl rfl)
theorem dX9_whyNot_43 : decode cX9_whyNot 43 = .ok (.iload_n 3, 1) := dk_29 (dk_at dksX9_whyNot_1 21 rfl rfl)
theorem dX9_whyNot_44 : decode cX9_whyNot 44 = .ok (.ifCond .ne 6, 3) := dk_154 0 6 (dk_at dksX9_whyNot_2 0 rfl rfl)
theorem dX9_whyNot_47 : decode cX9_whyNot 47 = .ok (.iload 5, 2) := dk_21 5 (dk_at dksX9_whyNot_2 3 rfl rfl)
theorem dX9_whyNot_49 : decode cX9_whyNot 49 = .ok (.ireturn, 1) := dk_172 (dk_at dksX9_whyNot_2 5 rfl rfl)
theorem dX9_whyNot_50 : decode cX9_whyNot 50 = .ok (.iload 5, 2) := dk_21 5 (dk_at dksX9_whyNot_2 6 rfl rfl)
theorem dX9_whyNot_52 : decode cX9_whyNot 52 = .ok (.tableswitch 61 6 9 #[32, 37, 45, 53], 32) := by decide +kernel
theorem dX9_whyNot_84 : decode cX9_whyNot 84 = .ok (.aload_n 0, 1) := dk_42 (dk_at dksX9_whyNot_4 0 rfl rfl)
theorem dX9_whyNot_85 : decode cX9_whyNot 85 = .ok (.invokevirtual 324, 3) := dk_182 1 68 (dk_at dksX9_whyNot_4 1 rfl rfl)
theorem dX9_whyNot_88 : decode cX9_whyNot 88 = .ok (.ireturn, 1) := dk_172 (dk_at dksX9_whyNot_4 4 rfl rfl)
theorem dX9_whyNot_89 : decode cX9_whyNot 89 = .ok (.aload_n 0, 1) := dk_42 (dk_at dksX9_whyNot_4 5 rfl rfl)
theorem dX9_whyNot_90 : decode cX9_whyNot 90 = .ok (.iload 4, 2) := dk_21 4 (dk_at dksX9_whyNot_4 6 rfl rfl)
theorem dX9_whyNot_92 : decode cX9_whyNot 92 = .ok (.iconst 0, 1) := dk_3 (dk_at dksX9_whyNot_4 8 rfl rfl)
theorem dX9_whyNot_93 : decode cX9_whyNot 93 = .ok (.invokevirtual 106, 3) := dk_182 0 106 (dk_at dksX9_whyNot_4 9 rfl rfl)
theorem dX9_whyNot_96 : decode cX9_whyNot 96 = .ok (.ireturn, 1) := dk_172 (dk_at dksX9_whyNot_4 12 rfl rfl)
theorem dX9_whyNot_97 : decode cX9_whyNot 97 = .ok (.aload_n 0, 1) := dk_42 (dk_at dksX9_whyNot_4 13 rfl rfl)
theorem dX9_whyNot_98 : decode cX9_whyNot 98 = .ok (.iload 4, 2) := dk_21 4 (dk_at dksX9_whyNot_4 14 rfl rfl)
theorem dX9_whyNot_100 : decode cX9_whyNot 100 = .ok (.iconst 2, 1) := dk_5 (dk_at dksX9_whyNot_4 16 rfl rfl)
theorem dX9_whyNot_101 : decode cX9_whyNot 101 = .ok (.invokevirtual 106, 3) := dk_182 0 106 (dk_at dksX9_whyNot_4 17 rfl rfl)
theorem dX9_whyNot_104 : decode cX9_whyNot 104 = .ok (.ireturn, 1) := dk_172 (dk_at dksX9_whyNot_4 20 rfl rfl)
theorem dX9_whyNot_105 : decode cX9_whyNot 105 = .ok (.aload_n 0, 1) := dk_42 (dk_at dksX9_whyNot_4 21 rfl rfl)
theorem dX9_whyNot_106 : decode cX9_whyNot 106 = .ok (.iload 4, 2) := dk_21 4 (dk_at dksX9_whyNot_4 22 rfl rfl)
theorem dX9_whyNot_108 : decode cX9_whyNot 108 = .ok (.iconst 3, 1) := dk_6 (dk_at dksX9_whyNot_5 0 rfl rfl)
theorem dX9_whyNot_109 : decode cX9_whyNot 109 = .ok (.invokevirtual 106, 3) := dk_182 0 106 (dk_at dksX9_whyNot_5 1 rfl rfl)
theorem dX9_whyNot_112 : decode cX9_whyNot 112 = .ok (.ireturn, 1) := dk_172 (dk_at dksX9_whyNot_5 4 rfl rfl)
theorem dX9_whyNot_113 : decode cX9_whyNot 113 = .ok (.iconst (-1), 1) := dk_2 (dk_at dksX9_whyNot_5 5 rfl rfl)
theorem dX9_whyNot_114 : decode cX9_whyNot 114 = .ok (.ireturn, 1) := dk_172 (dk_at dksX9_whyNot_5 6 rfl rfl)
abbrev cX9_gap : ByteArray := prog_15_method_93_code
def yX9_gap : MethodName := ⟨RX9, "gap", "()I"⟩
def dkwX9_gap_5 : List UInt8 := [167, 0, 4, 3, 96, 60, 132, 2, 1, 167, 255, 192, 27, 172]
abbrev dktX9_gap_5 : List UInt8 := dkwX9_gap_5 ++ []
def dkwX9_gap_4 : List UInt8 := [167, 0, 4, 3, 96, 60, 27, 42, 28, 6, 182, 0, 106, 42, 180, 0, 9, 5, 46, 164, 0, 7, 4]
abbrev dktX9_gap_4 : List UInt8 := dkwX9_gap_4 ++ dktX9_gap_5
def dkwX9_gap_3 : List UInt8 := [182, 0, 116, 153, 0, 22, 42, 28, 8, 182, 0, 106, 42, 180, 0, 9, 7, 46, 164, 0, 7, 4]
abbrev dktX9_gap_3 : List UInt8 := dkwX9_gap_3 ++ dktX9_gap_4
def dkwX9_gap_2 : List UInt8 := [167, 0, 4, 3, 96, 60, 132, 2, 1, 167, 255, 214, 3, 61, 28, 16, 100, 162, 0, 64, 27, 42, 28, 7]
abbrev dktX9_gap_2 : List UInt8 := dkwX9_gap_2 ++ dktX9_gap_3
def dkwX9_gap_1 : List UInt8 := [180, 0, 50, 28, 51, 42, 180, 0, 53, 28, 46, 2, 159, 0, 7, 4, 167, 0, 4, 3, 159, 0, 7, 4]
abbrev dktX9_gap_1 : List UInt8 := dkwX9_gap_1 ++ dktX9_gap_2
def dkwX9_gap_0 : List UInt8 := [42, 3, 181, 0, 83, 42, 182, 1, 83, 3, 60, 3, 61, 28, 17, 1, 144, 162, 0, 41, 27, 42]
abbrev dktX9_gap_0 : List UInt8 := dkwX9_gap_0 ++ dktX9_gap_1
theorem dksX9_gap_0 : cX9_gap.data.toList.drop 0 = dktX9_gap_0 := by decide +kernel
theorem dksX9_gap_1 : cX9_gap.data.toList.drop 22 = dktX9_gap_1 := dk_seg dksX9_gap_0 22 rfl rfl
theorem dksX9_gap_2 : cX9_gap.data.toList.drop 46 = dktX9_gap_2 := dk_seg dksX9_gap_1 24 rfl rfl
theorem dksX9_gap_3 : cX9_gap.data.toList.drop 70 = dktX9_gap_3 := dk_seg dksX9_gap_2 24 rfl rfl
theorem dksX9_gap_4 : cX9_gap.data.toList.drop 92 = dktX9_gap_4 := dk_seg dksX9_gap_3 22 rfl rfl
theorem dksX9_gap_5 : cX9_gap.data.toList.drop 115 = dktX9_gap_5 := dk_seg dksX9_gap_4 23 rfl rfl
theorem dX9_gap_0 : decode cX9_gap 0 = .ok (.aload_n 0, 1) := dk_42 (dk_at dksX9_gap_0 0 rfl rfl)
theorem dX9_gap_1 : decode cX9_gap 1 = .ok (.iconst 0, 1) := dk_3 (dk_at dksX9_gap_0 1 rfl rfl)
theorem dX9_gap_2 : decode cX9_gap 2 = .ok (.putfield 83, 3) := dk_181 0 83 (dk_at dksX9_gap_0 2 rfl rfl)
theorem dX9_gap_5 : decode cX9_gap 5 = .ok (.aload_n 0, 1) := dk_42 (dk_at dksX9_gap_0 5 rfl rfl)
theorem dX9_gap_6 : decode cX9_gap 6 = .ok (.invokevirtual 339, 3) := dk_182 1 83 (dk_at dksX9_gap_0 6 rfl rfl)
theorem dX9_gap_9 : decode cX9_gap 9 = .ok (.iconst 0, 1) := dk_3 (dk_at dksX9_gap_0 9 rfl rfl)
theorem dX9_gap_10 : decode cX9_gap 10 = .ok (.istore_n 1, 1) := dk_60 (dk_at dksX9_gap_0 10 rfl rfl)
theorem dX9_gap_11 : decode cX9_gap 11 = .ok (.iconst 0, 1) := dk_3 (dk_at dksX9_gap_0 11 rfl rfl)
theorem dX9_gap_12 : decode cX9_gap 12 = .ok (.istore_n 2, 1) := dk_61 (dk_at dksX9_gap_0 12 rfl rfl)
theorem dX9_gap_13 : decode cX9_gap 13 = .ok (.iload_n 2, 1) := dk_28 (dk_at dksX9_gap_0 13 rfl rfl)
theorem dX9_gap_14 : decode cX9_gap 14 = .ok (.sipush 400, 3) := dk_17 1 144 (dk_at dksX9_gap_0 14 rfl rfl)
theorem dX9_gap_17 : decode cX9_gap 17 = .ok (.if_icmp .ge 41, 3) := dk_162 0 41 (dk_at dksX9_gap_0 17 rfl rfl)
theorem dX9_gap_20 : decode cX9_gap 20 = .ok (.iload_n 1, 1) := dk_27 (dk_at dksX9_gap_0 20 rfl rfl)
theorem dX9_gap_21 : decode cX9_gap 21 = .ok (.aload_n 0, 1) := dk_42 (dk_at dksX9_gap_0 21 rfl rfl)
theorem dX9_gap_22 : decode cX9_gap 22 = .ok (.getfield 50, 3) := dk_180 0 50 (dk_at dksX9_gap_1 0 rfl rfl)
theorem dX9_gap_25 : decode cX9_gap 25 = .ok (.iload_n 2, 1) := dk_28 (dk_at dksX9_gap_1 3 rfl rfl)
theorem dX9_gap_26 : decode cX9_gap 26 = .ok (.baload, 1) := dk_51 (dk_at dksX9_gap_1 4 rfl rfl)
theorem dX9_gap_27 : decode cX9_gap 27 = .ok (.aload_n 0, 1) := dk_42 (dk_at dksX9_gap_1 5 rfl rfl)
theorem dX9_gap_28 : decode cX9_gap 28 = .ok (.getfield 53, 3) := dk_180 0 53 (dk_at dksX9_gap_1 6 rfl rfl)
theorem dX9_gap_31 : decode cX9_gap 31 = .ok (.iload_n 2, 1) := dk_28 (dk_at dksX9_gap_1 9 rfl rfl)
theorem dX9_gap_32 : decode cX9_gap 32 = .ok (.iaload, 1) := dk_46 (dk_at dksX9_gap_1 10 rfl rfl)
theorem dX9_gap_33 : decode cX9_gap 33 = .ok (.iconst (-1), 1) := dk_2 (dk_at dksX9_gap_1 11 rfl rfl)
theorem dX9_gap_34 : decode cX9_gap 34 = .ok (.if_icmp .eq 7, 3) := dk_159 0 7 (dk_at dksX9_gap_1 12 rfl rfl)
theorem dX9_gap_37 : decode cX9_gap 37 = .ok (.iconst 1, 1) := dk_4 (dk_at dksX9_gap_1 15 rfl rfl)
theorem dX9_gap_38 : decode cX9_gap 38 = .ok (.goto 4, 3) := dk_167 0 4 (dk_at dksX9_gap_1 16 rfl rfl)
theorem dX9_gap_41 : decode cX9_gap 41 = .ok (.iconst 0, 1) := dk_3 (dk_at dksX9_gap_1 19 rfl rfl)
theorem dX9_gap_42 : decode cX9_gap 42 = .ok (.if_icmp .eq 7, 3) := dk_159 0 7 (dk_at dksX9_gap_1 20 rfl rfl)
theorem dX9_gap_45 : decode cX9_gap 45 = .ok (.iconst 1, 1) := dk_4 (dk_at dksX9_gap_1 23 rfl rfl)
theorem dX9_gap_46 : decode cX9_gap 46 = .ok (.goto 4, 3) := dk_167 0 4 (dk_at dksX9_gap_2 0 rfl rfl)
theorem dX9_gap_49 : decode cX9_gap 49 = .ok (.iconst 0, 1) := dk_3 (dk_at dksX9_gap_2 3 rfl rfl)
theorem dX9_gap_50 : decode cX9_gap 50 = .ok (.iadd, 1) := dk_96 (dk_at dksX9_gap_2 4 rfl rfl)
theorem dX9_gap_51 : decode cX9_gap 51 = .ok (.istore_n 1, 1) := dk_60 (dk_at dksX9_gap_2 5 rfl rfl)
theorem dX9_gap_52 : decode cX9_gap 52 = .ok (.iinc 2 1, 3) := dk_132 2 1 (dk_at dksX9_gap_2 6 rfl rfl)
theorem dX9_gap_55 : decode cX9_gap 55 = .ok (.goto (-42), 3) := dk_167 255 214 (dk_at dksX9_gap_2 9 rfl rfl)
theorem dX9_gap_58 : decode cX9_gap 58 = .ok (.iconst 0, 1) := dk_3 (dk_at dksX9_gap_2 12 rfl rfl)
theorem dX9_gap_59 : decode cX9_gap 59 = .ok (.istore_n 2, 1) := dk_61 (dk_at dksX9_gap_2 13 rfl rfl)
theorem dX9_gap_60 : decode cX9_gap 60 = .ok (.iload_n 2, 1) := dk_28 (dk_at dksX9_gap_2 14 rfl rfl)
theorem dX9_gap_61 : decode cX9_gap 61 = .ok (.bipush 100, 2) := dk_16 100 (dk_at dksX9_gap_2 15 rfl rfl)
theorem dX9_gap_63 : decode cX9_gap 63 = .ok (.if_icmp .ge 64, 3) := dk_162 0 64 (dk_at dksX9_gap_2 17 rfl rfl)
theorem dX9_gap_66 : decode cX9_gap 66 = .ok (.iload_n 1, 1) := dk_27 (dk_at dksX9_gap_2 20 rfl rfl)
theorem dX9_gap_67 : decode cX9_gap 67 = .ok (.aload_n 0, 1) := dk_42 (dk_at dksX9_gap_2 21 rfl rfl)
theorem dX9_gap_68 : decode cX9_gap 68 = .ok (.iload_n 2, 1) := dk_28 (dk_at dksX9_gap_2 22 rfl rfl)
theorem dX9_gap_69 : decode cX9_gap 69 = .ok (.iconst 4, 1) := dk_7 (dk_at dksX9_gap_2 23 rfl rfl)
theorem dX9_gap_70 : decode cX9_gap 70 = .ok (.invokevirtual 116, 3) := dk_182 0 116 (dk_at dksX9_gap_3 0 rfl rfl)
theorem dX9_gap_73 : decode cX9_gap 73 = .ok (.ifCond .eq 22, 3) := dk_153 0 22 (dk_at dksX9_gap_3 3 rfl rfl)
theorem dX9_gap_76 : decode cX9_gap 76 = .ok (.aload_n 0, 1) := dk_42 (dk_at dksX9_gap_3 6 rfl rfl)
theorem dX9_gap_77 : decode cX9_gap 77 = .ok (.iload_n 2, 1) := dk_28 (dk_at dksX9_gap_3 7 rfl rfl)
theorem dX9_gap_78 : decode cX9_gap 78 = .ok (.iconst 5, 1) := dk_8 (dk_at dksX9_gap_3 8 rfl rfl)
theorem dX9_gap_79 : decode cX9_gap 79 = .ok (.invokevirtual 106, 3) := dk_182 0 106 (dk_at dksX9_gap_3 9 rfl rfl)
theorem dX9_gap_82 : decode cX9_gap 82 = .ok (.aload_n 0, 1) := dk_42 (dk_at dksX9_gap_3 12 rfl rfl)
theorem dX9_gap_83 : decode cX9_gap 83 = .ok (.getfield 9, 3) := dk_180 0 9 (dk_at dksX9_gap_3 13 rfl rfl)
theorem dX9_gap_86 : decode cX9_gap 86 = .ok (.iconst 4, 1) := dk_7 (dk_at dksX9_gap_3 16 rfl rfl)
theorem dX9_gap_87 : decode cX9_gap 87 = .ok (.iaload, 1) := dk_46 (dk_at dksX9_gap_3 17 rfl rfl)
theorem dX9_gap_88 : decode cX9_gap 88 = .ok (.if_icmp .le 7, 3) := dk_164 0 7 (dk_at dksX9_gap_3 18 rfl rfl)
theorem dX9_gap_91 : decode cX9_gap 91 = .ok (.iconst 1, 1) := dk_4 (dk_at dksX9_gap_3 21 rfl rfl)
theorem dX9_gap_92 : decode cX9_gap 92 = .ok (.goto 4, 3) := dk_167 0 4 (dk_at dksX9_gap_4 0 rfl rfl)
theorem dX9_gap_95 : decode cX9_gap 95 = .ok (.iconst 0, 1) := dk_3 (dk_at dksX9_gap_4 3 rfl rfl)
theorem dX9_gap_96 : decode cX9_gap 96 = .ok (.iadd, 1) := dk_96 (dk_at dksX9_gap_4 4 rfl rfl)
theorem dX9_gap_97 : decode cX9_gap 97 = .ok (.istore_n 1, 1) := dk_60 (dk_at dksX9_gap_4 5 rfl rfl)
theorem dX9_gap_98 : decode cX9_gap 98 = .ok (.iload_n 1, 1) := dk_27 (dk_at dksX9_gap_4 6 rfl rfl)
theorem dX9_gap_99 : decode cX9_gap 99 = .ok (.aload_n 0, 1) := dk_42 (dk_at dksX9_gap_4 7 rfl rfl)
theorem dX9_gap_100 : decode cX9_gap 100 = .ok (.iload_n 2, 1) := dk_28 (dk_at dksX9_gap_4 8 rfl rfl)
theorem dX9_gap_101 : decode cX9_gap 101 = .ok (.iconst 3, 1) := dk_6 (dk_at dksX9_gap_4 9 rfl rfl)
theorem dX9_gap_102 : decode cX9_gap 102 = .ok (.invokevirtual 106, 3) := dk_182 0 106 (dk_at dksX9_gap_4 10 rfl rfl)
theorem dX9_gap_105 : decode cX9_gap 105 = .ok (.aload_n 0, 1) := dk_42 (dk_at dksX9_gap_4 13 rfl rfl)
theorem dX9_gap_106 : decode cX9_gap 106 = .ok (.getfield 9, 3) := dk_180 0 9 (dk_at dksX9_gap_4 14 rfl rfl)
theorem dX9_gap_109 : decode cX9_gap 109 = .ok (.iconst 2, 1) := dk_5 (dk_at dksX9_gap_4 17 rfl rfl)
theorem dX9_gap_110 : decode cX9_gap 110 = .ok (.iaload, 1) := dk_46 (dk_at dksX9_gap_4 18 rfl rfl)
theorem dX9_gap_111 : decode cX9_gap 111 = .ok (.if_icmp .le 7, 3) := dk_164 0 7 (dk_at dksX9_gap_4 19 rfl rfl)
theorem dX9_gap_114 : decode cX9_gap 114 = .ok (.iconst 1, 1) := dk_4 (dk_at dksX9_gap_4 22 rfl rfl)
theorem dX9_gap_115 : decode cX9_gap 115 = .ok (.goto 4, 3) := dk_167 0 4 (dk_at dksX9_gap_5 0 rfl rfl)
theorem dX9_gap_118 : decode cX9_gap 118 = .ok (.iconst 0, 1) := dk_3 (dk_at dksX9_gap_5 3 rfl rfl)
theorem dX9_gap_119 : decode cX9_gap 119 = .ok (.iadd, 1) := dk_96 (dk_at dksX9_gap_5 4 rfl rfl)
theorem dX9_gap_120 : decode cX9_gap 120 = .ok (.istore_n 1, 1) := dk_60 (dk_at dksX9_gap_5 5 rfl rfl)
theorem dX9_gap_121 : decode cX9_gap 121 = .ok (.iinc 2 1, 3) := dk_132 2 1 (dk_at dksX9_gap_5 6 rfl rfl)
theorem dX9_gap_124 : decode cX9_gap 124 = .ok (.goto (-64), 3) := dk_167 255 192 (dk_at dksX9_gap_5 9 rfl rfl)
theorem dX9_gap_127 : decode cX9_gap 127 = .ok (.iload_n 1, 1) := dk_27 (dk_at dksX9_gap_5 12 rfl rfl)
theorem dX9_gap_128 : decode cX9_gap 128 = .ok (.ireturn, 1) := dk_172 (dk_at dksX9_gap_5 13 rfl rfl)
abbrev cX9_hitIf : ByteArray := prog_15_method_96_code
def yX9_hitIf : MethodName := ⟨RX9, "hitIf", "(I)I"⟩
def dkwX9_hitIf_1 : List UInt8 := [42, 27, 182, 1, 101, 42, 182, 0, 167, 61, 42, 27, 182, 1, 101, 28, 172]
abbrev dktX9_hitIf_1 : List UInt8 := dkwX9_hitIf_1 ++ []
def dkwX9_hitIf_0 : List UInt8 := [42, 3, 181, 0, 83, 42, 27, 3, 42, 5, 182, 0, 161, 4, 100, 4, 182, 0, 201, 153, 0, 5, 3, 172]
abbrev dktX9_hitIf_0 : List UInt8 := dkwX9_hitIf_0 ++ dktX9_hitIf_1
theorem dksX9_hitIf_0 : cX9_hitIf.data.toList.drop 0 = dktX9_hitIf_0 := by decide +kernel
theorem dksX9_hitIf_1 : cX9_hitIf.data.toList.drop 24 = dktX9_hitIf_1 := dk_seg dksX9_hitIf_0 24 rfl rfl
theorem dX9_hitIf_0 : decode cX9_hitIf 0 = .ok (.aload_n 0, 1) := dk_42 (dk_at dksX9_hitIf_0 0 rfl rfl)
theorem dX9_hitIf_1 : decode cX9_hitIf 1 = .ok (.iconst 0, 1) := dk_3 (dk_at dksX9_hitIf_0 1 rfl rfl)
theorem dX9_hitIf_2 : decode cX9_hitIf 2 = .ok (.putfield 83, 3) := dk_181 0 83 (dk_at dksX9_hitIf_0 2 rfl rfl)
theorem dX9_hitIf_5 : decode cX9_hitIf 5 = .ok (.aload_n 0, 1) := dk_42 (dk_at dksX9_hitIf_0 5 rfl rfl)
theorem dX9_hitIf_6 : decode cX9_hitIf 6 = .ok (.iload_n 1, 1) := dk_27 (dk_at dksX9_hitIf_0 6 rfl rfl)
theorem dX9_hitIf_7 : decode cX9_hitIf 7 = .ok (.iconst 0, 1) := dk_3 (dk_at dksX9_hitIf_0 7 rfl rfl)
theorem dX9_hitIf_8 : decode cX9_hitIf 8 = .ok (.aload_n 0, 1) := dk_42 (dk_at dksX9_hitIf_0 8 rfl rfl)
theorem dX9_hitIf_9 : decode cX9_hitIf 9 = .ok (.iconst 2, 1) := dk_5 (dk_at dksX9_hitIf_0 9 rfl rfl)
theorem dX9_hitIf_10 : decode cX9_hitIf 10 = .ok (.invokevirtual 161, 3) := dk_182 0 161 (dk_at dksX9_hitIf_0 10 rfl rfl)
theorem dX9_hitIf_13 : decode cX9_hitIf 13 = .ok (.iconst 1, 1) := dk_4 (dk_at dksX9_hitIf_0 13 rfl rfl)
theorem dX9_hitIf_14 : decode cX9_hitIf 14 = .ok (.isub, 1) := dk_100 (dk_at dksX9_hitIf_0 14 rfl rfl)
theorem dX9_hitIf_15 : decode cX9_hitIf 15 = .ok (.iconst 1, 1) := dk_4 (dk_at dksX9_hitIf_0 15 rfl rfl)
theorem dX9_hitIf_16 : decode cX9_hitIf 16 = .ok (.invokevirtual 201, 3) := dk_182 0 201 (dk_at dksX9_hitIf_0 16 rfl rfl)
theorem dX9_hitIf_19 : decode cX9_hitIf 19 = .ok (.ifCond .eq 5, 3) := dk_153 0 5 (dk_at dksX9_hitIf_0 19 rfl rfl)
theorem dX9_hitIf_22 : decode cX9_hitIf 22 = .ok (.iconst 0, 1) := dk_3 (dk_at dksX9_hitIf_0 22 rfl rfl)
theorem dX9_hitIf_23 : decode cX9_hitIf 23 = .ok (.ireturn, 1) := dk_172 (dk_at dksX9_hitIf_0 23 rfl rfl)
theorem dX9_hitIf_24 : decode cX9_hitIf 24 = .ok (.aload_n 0, 1) := dk_42 (dk_at dksX9_hitIf_1 0 rfl rfl)
theorem dX9_hitIf_25 : decode cX9_hitIf 25 = .ok (.iload_n 1, 1) := dk_27 (dk_at dksX9_hitIf_1 1 rfl rfl)
theorem dX9_hitIf_26 : decode cX9_hitIf 26 = .ok (.invokevirtual 357, 3) := dk_182 1 101 (dk_at dksX9_hitIf_1 2 rfl rfl)
theorem dX9_hitIf_29 : decode cX9_hitIf 29 = .ok (.aload_n 0, 1) := dk_42 (dk_at dksX9_hitIf_1 5 rfl rfl)
theorem dX9_hitIf_30 : decode cX9_hitIf 30 = .ok (.invokevirtual 167, 3) := dk_182 0 167 (dk_at dksX9_hitIf_1 6 rfl rfl)
theorem dX9_hitIf_33 : decode cX9_hitIf 33 = .ok (.istore_n 2, 1) := dk_61 (dk_at dksX9_hitIf_1 9 rfl rfl)
theorem dX9_hitIf_34 : decode cX9_hitIf 34 = .ok (.aload_n 0, 1) := dk_42 (dk_at dksX9_hitIf_1 10 rfl rfl)
theorem dX9_hitIf_35 : decode cX9_hitIf 35 = .ok (.iload_n 1, 1) := dk_27 (dk_at dksX9_hitIf_1 11 rfl rfl)
theorem dX9_hitIf_36 : decode cX9_hitIf 36 = .ok (.invokevirtual 357, 3) := dk_182 1 101 (dk_at dksX9_hitIf_1 12 rfl rfl)
theorem dX9_hitIf_39 : decode cX9_hitIf 39 = .ok (.iload_n 2, 1) := dk_28 (dk_at dksX9_hitIf_1 15 rfl rfl)
theorem dX9_hitIf_40 : decode cX9_hitIf 40 = .ok (.ireturn, 1) := dk_172 (dk_at dksX9_hitIf_1 16 rfl rfl)
abbrev cX9_flip : ByteArray := prog_15_method_94_code
def yX9_flip : MethodName := ⟨RX9, "flip", "(I)V"⟩
def dkwX9_flip_0 : List UInt8 := [42, 27, 5, 182, 0, 120, 61, 42, 28, 4, 4, 42, 28, 4, 182, 0, 106, 100, 182, 0, 98, 177]
abbrev dktX9_flip_0 : List UInt8 := dkwX9_flip_0 ++ []
theorem dksX9_flip_0 : cX9_flip.data.toList.drop 0 = dktX9_flip_0 := by decide +kernel
theorem dX9_flip_0 : decode cX9_flip 0 = .ok (.aload_n 0, 1) := dk_42 (dk_at dksX9_flip_0 0 rfl rfl)
theorem dX9_flip_1 : decode cX9_flip 1 = .ok (.iload_n 1, 1) := dk_27 (dk_at dksX9_flip_0 1 rfl rfl)
theorem dX9_flip_2 : decode cX9_flip 2 = .ok (.iconst 2, 1) := dk_5 (dk_at dksX9_flip_0 2 rfl rfl)
theorem dX9_flip_3 : decode cX9_flip 3 = .ok (.invokevirtual 120, 3) := dk_182 0 120 (dk_at dksX9_flip_0 3 rfl rfl)
theorem dX9_flip_6 : decode cX9_flip 6 = .ok (.istore_n 2, 1) := dk_61 (dk_at dksX9_flip_0 6 rfl rfl)
theorem dX9_flip_7 : decode cX9_flip 7 = .ok (.aload_n 0, 1) := dk_42 (dk_at dksX9_flip_0 7 rfl rfl)
theorem dX9_flip_8 : decode cX9_flip 8 = .ok (.iload_n 2, 1) := dk_28 (dk_at dksX9_flip_0 8 rfl rfl)
theorem dX9_flip_9 : decode cX9_flip 9 = .ok (.iconst 1, 1) := dk_4 (dk_at dksX9_flip_0 9 rfl rfl)
theorem dX9_flip_10 : decode cX9_flip 10 = .ok (.iconst 1, 1) := dk_4 (dk_at dksX9_flip_0 10 rfl rfl)
theorem dX9_flip_11 : decode cX9_flip 11 = .ok (.aload_n 0, 1) := dk_42 (dk_at dksX9_flip_0 11 rfl rfl)
theorem dX9_flip_12 : decode cX9_flip 12 = .ok (.iload_n 2, 1) := dk_28 (dk_at dksX9_flip_0 12 rfl rfl)
theorem dX9_flip_13 : decode cX9_flip 13 = .ok (.iconst 1, 1) := dk_4 (dk_at dksX9_flip_0 13 rfl rfl)
theorem dX9_flip_14 : decode cX9_flip 14 = .ok (.invokevirtual 106, 3) := dk_182 0 106 (dk_at dksX9_flip_0 14 rfl rfl)
theorem dX9_flip_17 : decode cX9_flip 17 = .ok (.isub, 1) := dk_100 (dk_at dksX9_flip_0 17 rfl rfl)
theorem dX9_flip_18 : decode cX9_flip 18 = .ok (.invokevirtual 98, 3) := dk_182 0 98 (dk_at dksX9_flip_0 18 rfl rfl)
theorem dX9_flip_21 : decode cX9_flip 21 = .ok (.return_, 1) := dk_177 (dk_at dksX9_flip_0 21 rfl rfl)
abbrev cX9_fewest : ByteArray := prog_15_method_98_code
def yX9_fewest : MethodName := ⟨RX9, "fewest", "(I)I"⟩
def dkwX9_fewest_2 : List UInt8 := [162, 0, 16, 42, 21, 4, 27, 182, 1, 107, 153, 0, 6, 21, 4, 62, 132, 4, 1, 167, 255, 217, 29, 172]
abbrev dktX9_fewest_2 : List UInt8 := dkwX9_fewest_2 ++ []
def dkwX9_fewest_1 : List UInt8 := [62, 3, 54, 4, 21, 4, 28, 162, 0, 39, 29, 2, 159, 0, 15, 21, 4, 184, 1, 71, 29, 184, 1, 71]
abbrev dktX9_fewest_1 : List UInt8 := dkwX9_fewest_1 ++ dktX9_fewest_2
def dkwX9_fewest_0 : List UInt8 := [42, 3, 181, 0, 83, 42, 27, 182, 1, 74, 153, 0, 5, 3, 172, 4, 42, 5, 182, 0, 161, 120, 61, 2]
abbrev dktX9_fewest_0 : List UInt8 := dkwX9_fewest_0 ++ dktX9_fewest_1
theorem dksX9_fewest_0 : cX9_fewest.data.toList.drop 0 = dktX9_fewest_0 := by decide +kernel
theorem dksX9_fewest_1 : cX9_fewest.data.toList.drop 24 = dktX9_fewest_1 := dk_seg dksX9_fewest_0 24 rfl rfl
theorem dksX9_fewest_2 : cX9_fewest.data.toList.drop 48 = dktX9_fewest_2 := dk_seg dksX9_fewest_1 24 rfl rfl
theorem dX9_fewest_0 : decode cX9_fewest 0 = .ok (.aload_n 0, 1) := dk_42 (dk_at dksX9_fewest_0 0 rfl rfl)
theorem dX9_fewest_1 : decode cX9_fewest 1 = .ok (.iconst 0, 1) := dk_3 (dk_at dksX9_fewest_0 1 rfl rfl)
theorem dX9_fewest_2 : decode cX9_fewest 2 = .ok (.putfield 83, 3) := dk_181 0 83 (dk_at dksX9_fewest_0 2 rfl rfl)
theorem dX9_fewest_5 : decode cX9_fewest 5 = .ok (.aload_n 0, 1) := dk_42 (dk_at dksX9_fewest_0 5 rfl rfl)
theorem dX9_fewest_6 : decode cX9_fewest 6 = .ok (.iload_n 1, 1) := dk_27 (dk_at dksX9_fewest_0 6 rfl rfl)
theorem dX9_fewest_7 : decode cX9_fewest 7 = .ok (.invokevirtual 330, 3) := dk_182 1 74 (dk_at dksX9_fewest_0 7 rfl rfl)
theorem dX9_fewest_10 : decode cX9_fewest 10 = .ok (.ifCond .eq 5, 3) := dk_153 0 5 (dk_at dksX9_fewest_0 10 rfl rfl)
theorem dX9_fewest_13 : decode cX9_fewest 13 = .ok (.iconst 0, 1) := dk_3 (dk_at dksX9_fewest_0 13 rfl rfl)
theorem dX9_fewest_14 : decode cX9_fewest 14 = .ok (.ireturn, 1) := dk_172 (dk_at dksX9_fewest_0 14 rfl rfl)
theorem dX9_fewest_15 : decode cX9_fewest 15 = .ok (.iconst 1, 1) := dk_4 (dk_at dksX9_fewest_0 15 rfl rfl)
theorem dX9_fewest_16 : decode cX9_fewest 16 = .ok (.aload_n 0, 1) := dk_42 (dk_at dksX9_fewest_0 16 rfl rfl)
theorem dX9_fewest_17 : decode cX9_fewest 17 = .ok (.iconst 2, 1) := dk_5 (dk_at dksX9_fewest_0 17 rfl rfl)
theorem dX9_fewest_18 : decode cX9_fewest 18 = .ok (.invokevirtual 161, 3) := dk_182 0 161 (dk_at dksX9_fewest_0 18 rfl rfl)
theorem dX9_fewest_21 : decode cX9_fewest 21 = .ok (.ishl, 1) := dk_120 (dk_at dksX9_fewest_0 21 rfl rfl)
theorem dX9_fewest_22 : decode cX9_fewest 22 = .ok (.istore_n 2, 1) := dk_61 (dk_at dksX9_fewest_0 22 rfl rfl)
theorem dX9_fewest_23 : decode cX9_fewest 23 = .ok (.iconst (-1), 1) := dk_2 (dk_at dksX9_fewest_0 23 rfl rfl)
theorem dX9_fewest_24 : decode cX9_fewest 24 = .ok (.istore_n 3, 1) := dk_62 (dk_at dksX9_fewest_1 0 rfl rfl)
theorem dX9_fewest_25 : decode cX9_fewest 25 = .ok (.iconst 0, 1) := dk_3 (dk_at dksX9_fewest_1 1 rfl rfl)
theorem dX9_fewest_26 : decode cX9_fewest 26 = .ok (.istore 4, 2) := dk_54 4 (dk_at dksX9_fewest_1 2 rfl rfl)
theorem dX9_fewest_28 : decode cX9_fewest 28 = .ok (.iload 4, 2) := dk_21 4 (dk_at dksX9_fewest_1 4 rfl rfl)
theorem dX9_fewest_30 : decode cX9_fewest 30 = .ok (.iload_n 2, 1) := dk_28 (dk_at dksX9_fewest_1 6 rfl rfl)
theorem dX9_fewest_31 : decode cX9_fewest 31 = .ok (.if_icmp .ge 39, 3) := dk_162 0 39 (dk_at dksX9_fewest_1 7 rfl rfl)
theorem dX9_fewest_34 : decode cX9_fewest 34 = .ok (.iload_n 3, 1) := dk_29 (dk_at dksX9_fewest_1 10 rfl rfl)
theorem dX9_fewest_35 : decode cX9_fewest 35 = .ok (.iconst (-1), 1) := dk_2 (dk_at dksX9_fewest_1 11 rfl rfl)
theorem dX9_fewest_36 : decode cX9_fewest 36 = .ok (.if_icmp .eq 15, 3) := dk_159 0 15 (dk_at dksX9_fewest_1 12 rfl rfl)
theorem dX9_fewest_39 : decode cX9_fewest 39 = .ok (.iload 4, 2) := dk_21 4 (dk_at dksX9_fewest_1 15 rfl rfl)
theorem dX9_fewest_41 : decode cX9_fewest 41 = .ok (.invokestatic 327, 3) := dk_184 1 71 (dk_at dksX9_fewest_1 17 rfl rfl)
theorem dX9_fewest_44 : decode cX9_fewest 44 = .ok (.iload_n 3, 1) := dk_29 (dk_at dksX9_fewest_1 20 rfl rfl)
theorem dX9_fewest_45 : decode cX9_fewest 45 = .ok (.invokestatic 327, 3) := dk_184 1 71 (dk_at dksX9_fewest_1 21 rfl rfl)
theorem dX9_fewest_48 : decode cX9_fewest 48 = .ok (.if_icmp .ge 16, 3) := dk_162 0 16 (dk_at dksX9_fewest_2 0 rfl rfl)
theorem dX9_fewest_51 : decode cX9_fewest 51 = .ok (.aload_n 0, 1) := dk_42 (dk_at dksX9_fewest_2 3 rfl rfl)
theorem dX9_fewest_52 : decode cX9_fewest 52 = .ok (.iload 4, 2) := dk_21 4 (dk_at dksX9_fewest_2 4 rfl rfl)
theorem dX9_fewest_54 : decode cX9_fewest 54 = .ok (.iload_n 1, 1) := dk_27 (dk_at dksX9_fewest_2 6 rfl rfl)
theorem dX9_fewest_55 : decode cX9_fewest 55 = .ok (.invokevirtual 363, 3) := dk_182 1 107 (dk_at dksX9_fewest_2 7 rfl rfl)
theorem dX9_fewest_58 : decode cX9_fewest 58 = .ok (.ifCond .eq 6, 3) := dk_153 0 6 (dk_at dksX9_fewest_2 10 rfl rfl)
theorem dX9_fewest_61 : decode cX9_fewest 61 = .ok (.iload 4, 2) := dk_21 4 (dk_at dksX9_fewest_2 13 rfl rfl)
theorem dX9_fewest_63 : decode cX9_fewest 63 = .ok (.istore_n 3, 1) := dk_62 (dk_at dksX9_fewest_2 15 rfl rfl)
theorem dX9_fewest_64 : decode cX9_fewest 64 = .ok (.iinc 4 1, 3) := dk_132 4 1 (dk_at dksX9_fewest_2 16 rfl rfl)
theorem dX9_fewest_67 : decode cX9_fewest 67 = .ok (.goto (-39), 3) := dk_167 255 217 (dk_at dksX9_fewest_2 19 rfl rfl)
theorem dX9_fewest_70 : decode cX9_fewest 70 = .ok (.iload_n 3, 1) := dk_29 (dk_at dksX9_fewest_2 22 rfl rfl)
theorem dX9_fewest_71 : decode cX9_fewest 71 = .ok (.ireturn, 1) := dk_172 (dk_at dksX9_fewest_2 23 rfl rfl)
abbrev cX9_isHitWith : ByteArray := prog_15_method_97_code
def yX9_isHitWith : MethodName := ⟨RX9, "isHitWith", "(II)Z"⟩
def dkwX9_isHitWith_1 : List UInt8 := [167, 0, 4, 3, 62, 42, 27, 182, 1, 104, 29, 172]
abbrev dktX9_isHitWith_1 : List UInt8 := dkwX9_isHitWith_1 ++ []
def dkwX9_isHitWith_0 : List UInt8 := [42, 27, 182, 1, 104, 42, 182, 0, 149, 42, 42, 28, 7, 182, 0, 120, 182, 0, 164, 153, 0, 7, 4]
abbrev dktX9_isHitWith_0 : List UInt8 := dkwX9_isHitWith_0 ++ dktX9_isHitWith_1
theorem dksX9_isHitWith_0 : cX9_isHitWith.data.toList.drop 0 = dktX9_isHitWith_0 := by decide +kernel
theorem dksX9_isHitWith_1 : cX9_isHitWith.data.toList.drop 23 = dktX9_isHitWith_1 := dk_seg dksX9_isHitWith_0 23 rfl rfl
theorem dX9_isHitWith_0 : decode cX9_isHitWith 0 = .ok (.aload_n 0, 1) := dk_42 (dk_at dksX9_isHitWith_0 0 rfl rfl)
theorem dX9_isHitWith_1 : decode cX9_isHitWith 1 = .ok (.iload_n 1, 1) := dk_27 (dk_at dksX9_isHitWith_0 1 rfl rfl)
theorem dX9_isHitWith_2 : decode cX9_isHitWith 2 = .ok (.invokevirtual 360, 3) := dk_182 1 104 (dk_at dksX9_isHitWith_0 2 rfl rfl)
theorem dX9_isHitWith_5 : decode cX9_isHitWith 5 = .ok (.aload_n 0, 1) := dk_42 (dk_at dksX9_isHitWith_0 5 rfl rfl)
theorem dX9_isHitWith_6 : decode cX9_isHitWith 6 = .ok (.invokevirtual 149, 3) := dk_182 0 149 (dk_at dksX9_isHitWith_0 6 rfl rfl)
theorem dX9_isHitWith_9 : decode cX9_isHitWith 9 = .ok (.aload_n 0, 1) := dk_42 (dk_at dksX9_isHitWith_0 9 rfl rfl)
theorem dX9_isHitWith_10 : decode cX9_isHitWith 10 = .ok (.aload_n 0, 1) := dk_42 (dk_at dksX9_isHitWith_0 10 rfl rfl)
theorem dX9_isHitWith_11 : decode cX9_isHitWith 11 = .ok (.iload_n 2, 1) := dk_28 (dk_at dksX9_isHitWith_0 11 rfl rfl)
theorem dX9_isHitWith_12 : decode cX9_isHitWith 12 = .ok (.iconst 4, 1) := dk_7 (dk_at dksX9_isHitWith_0 12 rfl rfl)
theorem dX9_isHitWith_13 : decode cX9_isHitWith 13 = .ok (.invokevirtual 120, 3) := dk_182 0 120 (dk_at dksX9_isHitWith_0 13 rfl rfl)
theorem dX9_isHitWith_16 : decode cX9_isHitWith 16 = .ok (.invokevirtual 164, 3) := dk_182 0 164 (dk_at dksX9_isHitWith_0 16 rfl rfl)
theorem dX9_isHitWith_19 : decode cX9_isHitWith 19 = .ok (.ifCond .eq 7, 3) := dk_153 0 7 (dk_at dksX9_isHitWith_0 19 rfl rfl)
theorem dX9_isHitWith_22 : decode cX9_isHitWith 22 = .ok (.iconst 1, 1) := dk_4 (dk_at dksX9_isHitWith_0 22 rfl rfl)
theorem dX9_isHitWith_23 : decode cX9_isHitWith 23 = .ok (.goto 4, 3) := dk_167 0 4 (dk_at dksX9_isHitWith_1 0 rfl rfl)
theorem dX9_isHitWith_26 : decode cX9_isHitWith 26 = .ok (.iconst 0, 1) := dk_3 (dk_at dksX9_isHitWith_1 3 rfl rfl)
theorem dX9_isHitWith_27 : decode cX9_isHitWith 27 = .ok (.istore_n 3, 1) := dk_62 (dk_at dksX9_isHitWith_1 4 rfl rfl)
theorem dX9_isHitWith_28 : decode cX9_isHitWith 28 = .ok (.aload_n 0, 1) := dk_42 (dk_at dksX9_isHitWith_1 5 rfl rfl)
theorem dX9_isHitWith_29 : decode cX9_isHitWith 29 = .ok (.iload_n 1, 1) := dk_27 (dk_at dksX9_isHitWith_1 6 rfl rfl)
theorem dX9_isHitWith_30 : decode cX9_isHitWith 30 = .ok (.invokevirtual 360, 3) := dk_182 1 104 (dk_at dksX9_isHitWith_1 7 rfl rfl)
theorem dX9_isHitWith_33 : decode cX9_isHitWith 33 = .ok (.iload_n 3, 1) := dk_29 (dk_at dksX9_isHitWith_1 10 rfl rfl)
theorem dX9_isHitWith_34 : decode cX9_isHitWith 34 = .ok (.ireturn, 1) := dk_172 (dk_at dksX9_isHitWith_1 11 rfl rfl)
abbrev cX9_flipAll : ByteArray := prog_15_method_95_code
def yX9_flipAll : MethodName := ⟨RX9, "flipAll", "(I)V"⟩
def dkwX9_flipAll_1 : List UInt8 := [132, 2, 1, 167, 255, 233, 177]
abbrev dktX9_flipAll_1 : List UInt8 := dkwX9_flipAll_1 ++ []
def dkwX9_flipAll_0 : List UInt8 := [3, 61, 28, 16, 12, 162, 0, 23, 27, 28, 122, 4, 126, 4, 160, 0, 8, 42, 28, 182, 1, 101]
abbrev dktX9_flipAll_0 : List UInt8 := dkwX9_flipAll_0 ++ dktX9_flipAll_1
theorem dksX9_flipAll_0 : cX9_flipAll.data.toList.drop 0 = dktX9_flipAll_0 := by decide +kernel
theorem dksX9_flipAll_1 : cX9_flipAll.data.toList.drop 22 = dktX9_flipAll_1 := dk_seg dksX9_flipAll_0 22 rfl rfl
theorem dX9_flipAll_0 : decode cX9_flipAll 0 = .ok (.iconst 0, 1) := dk_3 (dk_at dksX9_flipAll_0 0 rfl rfl)
theorem dX9_flipAll_1 : decode cX9_flipAll 1 = .ok (.istore_n 2, 1) := dk_61 (dk_at dksX9_flipAll_0 1 rfl rfl)
theorem dX9_flipAll_2 : decode cX9_flipAll 2 = .ok (.iload_n 2, 1) := dk_28 (dk_at dksX9_flipAll_0 2 rfl rfl)
theorem dX9_flipAll_3 : decode cX9_flipAll 3 = .ok (.bipush 12, 2) := dk_16 12 (dk_at dksX9_flipAll_0 3 rfl rfl)
theorem dX9_flipAll_5 : decode cX9_flipAll 5 = .ok (.if_icmp .ge 23, 3) := dk_162 0 23 (dk_at dksX9_flipAll_0 5 rfl rfl)
theorem dX9_flipAll_8 : decode cX9_flipAll 8 = .ok (.iload_n 1, 1) := dk_27 (dk_at dksX9_flipAll_0 8 rfl rfl)
theorem dX9_flipAll_9 : decode cX9_flipAll 9 = .ok (.iload_n 2, 1) := dk_28 (dk_at dksX9_flipAll_0 9 rfl rfl)
theorem dX9_flipAll_10 : decode cX9_flipAll 10 = .ok (.ishr, 1) := dk_122 (dk_at dksX9_flipAll_0 10 rfl rfl)
theorem dX9_flipAll_11 : decode cX9_flipAll 11 = .ok (.iconst 1, 1) := dk_4 (dk_at dksX9_flipAll_0 11 rfl rfl)
theorem dX9_flipAll_12 : decode cX9_flipAll 12 = .ok (.iand, 1) := dk_126 (dk_at dksX9_flipAll_0 12 rfl rfl)
theorem dX9_flipAll_13 : decode cX9_flipAll 13 = .ok (.iconst 1, 1) := dk_4 (dk_at dksX9_flipAll_0 13 rfl rfl)
theorem dX9_flipAll_14 : decode cX9_flipAll 14 = .ok (.if_icmp .ne 8, 3) := dk_160 0 8 (dk_at dksX9_flipAll_0 14 rfl rfl)
theorem dX9_flipAll_17 : decode cX9_flipAll 17 = .ok (.aload_n 0, 1) := dk_42 (dk_at dksX9_flipAll_0 17 rfl rfl)
theorem dX9_flipAll_18 : decode cX9_flipAll 18 = .ok (.iload_n 2, 1) := dk_28 (dk_at dksX9_flipAll_0 18 rfl rfl)
theorem dX9_flipAll_19 : decode cX9_flipAll 19 = .ok (.invokevirtual 357, 3) := dk_182 1 101 (dk_at dksX9_flipAll_0 19 rfl rfl)
theorem dX9_flipAll_22 : decode cX9_flipAll 22 = .ok (.iinc 2 1, 3) := dk_132 2 1 (dk_at dksX9_flipAll_1 0 rfl rfl)
theorem dX9_flipAll_25 : decode cX9_flipAll 25 = .ok (.goto (-23), 3) := dk_167 255 233 (dk_at dksX9_flipAll_1 3 rfl rfl)
theorem dX9_flipAll_28 : decode cX9_flipAll 28 = .ok (.return_, 1) := dk_177 (dk_at dksX9_flipAll_1 6 rfl rfl)
abbrev cX9_settings : ByteArray := prog_15_method_99_code
def yX9_settings : MethodName := ⟨RX9, "settings", "(I)I"⟩
def dkwX9_settings_2 : List UInt8 := [167, 0, 4, 3, 96, 62, 132, 4, 1, 167, 255, 229, 29, 172]
abbrev dktX9_settings_2 : List UInt8 := dkwX9_settings_2 ++ []
def dkwX9_settings_1 : List UInt8 := [62, 3, 54, 4, 21, 4, 28, 162, 0, 27, 29, 42, 21, 4, 27, 182, 1, 107, 153, 0, 7, 4]
abbrev dktX9_settings_1 : List UInt8 := dkwX9_settings_1 ++ dktX9_settings_2
def dkwX9_settings_0 : List UInt8 := [42, 3, 181, 0, 83, 42, 27, 182, 1, 74, 153, 0, 5, 3, 172, 4, 42, 5, 182, 0, 161, 120, 61, 3]
abbrev dktX9_settings_0 : List UInt8 := dkwX9_settings_0 ++ dktX9_settings_1
theorem dksX9_settings_0 : cX9_settings.data.toList.drop 0 = dktX9_settings_0 := by decide +kernel
theorem dksX9_settings_1 : cX9_settings.data.toList.drop 24 = dktX9_settings_1 := dk_seg dksX9_settings_0 24 rfl rfl
theorem dksX9_settings_2 : cX9_settings.data.toList.drop 46 = dktX9_settings_2 := dk_seg dksX9_settings_1 22 rfl rfl
theorem dX9_settings_0 : decode cX9_settings 0 = .ok (.aload_n 0, 1) := dk_42 (dk_at dksX9_settings_0 0 rfl rfl)
theorem dX9_settings_1 : decode cX9_settings 1 = .ok (.iconst 0, 1) := dk_3 (dk_at dksX9_settings_0 1 rfl rfl)
theorem dX9_settings_2 : decode cX9_settings 2 = .ok (.putfield 83, 3) := dk_181 0 83 (dk_at dksX9_settings_0 2 rfl rfl)
theorem dX9_settings_5 : decode cX9_settings 5 = .ok (.aload_n 0, 1) := dk_42 (dk_at dksX9_settings_0 5 rfl rfl)
theorem dX9_settings_6 : decode cX9_settings 6 = .ok (.iload_n 1, 1) := dk_27 (dk_at dksX9_settings_0 6 rfl rfl)
theorem dX9_settings_7 : decode cX9_settings 7 = .ok (.invokevirtual 330, 3) := dk_182 1 74 (dk_at dksX9_settings_0 7 rfl rfl)
theorem dX9_settings_10 : decode cX9_settings 10 = .ok (.ifCond .eq 5, 3) := dk_153 0 5 (dk_at dksX9_settings_0 10 rfl rfl)
theorem dX9_settings_13 : decode cX9_settings 13 = .ok (.iconst 0, 1) := dk_3 (dk_at dksX9_settings_0 13 rfl rfl)
theorem dX9_settings_14 : decode cX9_settings 14 = .ok (.ireturn, 1) := dk_172 (dk_at dksX9_settings_0 14 rfl rfl)
theorem dX9_settings_15 : decode cX9_settings 15 = .ok (.iconst 1, 1) := dk_4 (dk_at dksX9_settings_0 15 rfl rfl)
theorem dX9_settings_16 : decode cX9_settings 16 = .ok (.aload_n 0, 1) := dk_42 (dk_at dksX9_settings_0 16 rfl rfl)
theorem dX9_settings_17 : decode cX9_settings 17 = .ok (.iconst 2, 1) := dk_5 (dk_at dksX9_settings_0 17 rfl rfl)
theorem dX9_settings_18 : decode cX9_settings 18 = .ok (.invokevirtual 161, 3) := dk_182 0 161 (dk_at dksX9_settings_0 18 rfl rfl)
theorem dX9_settings_21 : decode cX9_settings 21 = .ok (.ishl, 1) := dk_120 (dk_at dksX9_settings_0 21 rfl rfl)
theorem dX9_settings_22 : decode cX9_settings 22 = .ok (.istore_n 2, 1) := dk_61 (dk_at dksX9_settings_0 22 rfl rfl)
theorem dX9_settings_23 : decode cX9_settings 23 = .ok (.iconst 0, 1) := dk_3 (dk_at dksX9_settings_0 23 rfl rfl)
theorem dX9_settings_24 : decode cX9_settings 24 = .ok (.istore_n 3, 1) := dk_62 (dk_at dksX9_settings_1 0 rfl rfl)
theorem dX9_settings_25 : decode cX9_settings 25 = .ok (.iconst 0, 1) := dk_3 (dk_at dksX9_settings_1 1 rfl rfl)
theorem dX9_settings_26 : decode cX9_settings 26 = .ok (.istore 4, 2) := dk_54 4 (dk_at dksX9_settings_1 2 rfl rfl)
theorem dX9_settings_28 : decode cX9_settings 28 = .ok (.iload 4, 2) := dk_21 4 (dk_at dksX9_settings_1 4 rfl rfl)
theorem dX9_settings_30 : decode cX9_settings 30 = .ok (.iload_n 2, 1) := dk_28 (dk_at dksX9_settings_1 6 rfl rfl)
theorem dX9_settings_31 : decode cX9_settings 31 = .ok (.if_icmp .ge 27, 3) := dk_162 0 27 (dk_at dksX9_settings_1 7 rfl rfl)
theorem dX9_settings_34 : decode cX9_settings 34 = .ok (.iload_n 3, 1) := dk_29 (dk_at dksX9_settings_1 10 rfl rfl)
theorem dX9_settings_35 : decode cX9_settings 35 = .ok (.aload_n 0, 1) := dk_42 (dk_at dksX9_settings_1 11 rfl rfl)
theorem dX9_settings_36 : decode cX9_settings 36 = .ok (.iload 4, 2) := dk_21 4 (dk_at dksX9_settings_1 12 rfl rfl)
theorem dX9_settings_38 : decode cX9_settings 38 = .ok (.iload_n 1, 1) := dk_27 (dk_at dksX9_settings_1 14 rfl rfl)
theorem dX9_settings_39 : decode cX9_settings 39 = .ok (.invokevirtual 363, 3) := dk_182 1 107 (dk_at dksX9_settings_1 15 rfl rfl)
theorem dX9_settings_42 : decode cX9_settings 42 = .ok (.ifCond .eq 7, 3) := dk_153 0 7 (dk_at dksX9_settings_1 18 rfl rfl)
theorem dX9_settings_45 : decode cX9_settings 45 = .ok (.iconst 1, 1) := dk_4 (dk_at dksX9_settings_1 21 rfl rfl)
theorem dX9_settings_46 : decode cX9_settings 46 = .ok (.goto 4, 3) := dk_167 0 4 (dk_at dksX9_settings_2 0 rfl rfl)
theorem dX9_settings_49 : decode cX9_settings 49 = .ok (.iconst 0, 1) := dk_3 (dk_at dksX9_settings_2 3 rfl rfl)
theorem dX9_settings_50 : decode cX9_settings 50 = .ok (.iadd, 1) := dk_96 (dk_at dksX9_settings_2 4 rfl rfl)
theorem dX9_settings_51 : decode cX9_settings 51 = .ok (.istore_n 3, 1) := dk_62 (dk_at dksX9_settings_2 5 rfl rfl)
theorem dX9_settings_52 : decode cX9_settings 52 = .ok (.iinc 4 1, 3) := dk_132 4 1 (dk_at dksX9_settings_2 6 rfl rfl)
theorem dX9_settings_55 : decode cX9_settings 55 = .ok (.goto (-27), 3) := dk_167 255 229 (dk_at dksX9_settings_2 9 rfl rfl)
theorem dX9_settings_58 : decode cX9_settings 58 = .ok (.iload_n 3, 1) := dk_29 (dk_at dksX9_settings_2 12 rfl rfl)
theorem dX9_settings_59 : decode cX9_settings 59 = .ok (.ireturn, 1) := dk_172 (dk_at dksX9_settings_2 13 rfl rfl)
abbrev cX9_worth : ByteArray := prog_15_method_103_code
def yX9_worth : MethodName := ⟨RX9, "worth", "(I)I"⟩
def dkwX9_worth_1 : List UInt8 := [182, 1, 116, 172]
abbrev dktX9_worth_1 : List UInt8 := dkwX9_worth_1 ++ []
def dkwX9_worth_0 : List UInt8 := [42, 3, 181, 0, 83, 42, 27, 3, 6, 4, 182, 0, 201, 153, 0, 7, 3, 167, 0, 8, 42, 27]
abbrev dktX9_worth_0 : List UInt8 := dkwX9_worth_0 ++ dktX9_worth_1
theorem dksX9_worth_0 : cX9_worth.data.toList.drop 0 = dktX9_worth_0 := by decide +kernel
theorem dksX9_worth_1 : cX9_worth.data.toList.drop 22 = dktX9_worth_1 := dk_seg dksX9_worth_0 22 rfl rfl
theorem dX9_worth_0 : decode cX9_worth 0 = .ok (.aload_n 0, 1) := dk_42 (dk_at dksX9_worth_0 0 rfl rfl)
theorem dX9_worth_1 : decode cX9_worth 1 = .ok (.iconst 0, 1) := dk_3 (dk_at dksX9_worth_0 1 rfl rfl)
theorem dX9_worth_2 : decode cX9_worth 2 = .ok (.putfield 83, 3) := dk_181 0 83 (dk_at dksX9_worth_0 2 rfl rfl)
theorem dX9_worth_5 : decode cX9_worth 5 = .ok (.aload_n 0, 1) := dk_42 (dk_at dksX9_worth_0 5 rfl rfl)
theorem dX9_worth_6 : decode cX9_worth 6 = .ok (.iload_n 1, 1) := dk_27 (dk_at dksX9_worth_0 6 rfl rfl)
theorem dX9_worth_7 : decode cX9_worth 7 = .ok (.iconst 0, 1) := dk_3 (dk_at dksX9_worth_0 7 rfl rfl)
theorem dX9_worth_8 : decode cX9_worth 8 = .ok (.iconst 3, 1) := dk_6 (dk_at dksX9_worth_0 8 rfl rfl)
theorem dX9_worth_9 : decode cX9_worth 9 = .ok (.iconst 1, 1) := dk_4 (dk_at dksX9_worth_0 9 rfl rfl)
theorem dX9_worth_10 : decode cX9_worth 10 = .ok (.invokevirtual 201, 3) := dk_182 0 201 (dk_at dksX9_worth_0 10 rfl rfl)
theorem dX9_worth_13 : decode cX9_worth 13 = .ok (.ifCond .eq 7, 3) := dk_153 0 7 (dk_at dksX9_worth_0 13 rfl rfl)
theorem dX9_worth_16 : decode cX9_worth 16 = .ok (.iconst 0, 1) := dk_3 (dk_at dksX9_worth_0 16 rfl rfl)
theorem dX9_worth_17 : decode cX9_worth 17 = .ok (.goto 8, 3) := dk_167 0 8 (dk_at dksX9_worth_0 17 rfl rfl)
theorem dX9_worth_20 : decode cX9_worth 20 = .ok (.aload_n 0, 1) := dk_42 (dk_at dksX9_worth_0 20 rfl rfl)
theorem dX9_worth_21 : decode cX9_worth 21 = .ok (.iload_n 1, 1) := dk_27 (dk_at dksX9_worth_0 21 rfl rfl)
theorem dX9_worth_22 : decode cX9_worth 22 = .ok (.invokevirtual 372, 3) := dk_182 1 116 (dk_at dksX9_worth_1 0 rfl rfl)
theorem dX9_worth_25 : decode cX9_worth 25 = .ok (.ireturn, 1) := dk_172 (dk_at dksX9_worth_1 3 rfl rfl)
abbrev cX9_worthOf : ByteArray := prog_15_method_102_code
def yX9_worthOf : MethodName := ⟨RX9, "worthOf", "(I)I"⟩
def dkwX9_worthOf_6 : List UInt8 := [167, 255, 124]
abbrev dktX9_worthOf_6 : List UInt8 := dkwX9_worthOf_6 ++ []
def dkwX9_worthOf_5 : List UInt8 := [42, 180, 0, 34, 28, 46, 164, 0, 9, 21, 4, 116, 167, 0, 9, 42, 180, 0, 34, 28, 46, 79]
abbrev dktX9_worthOf_5 : List UInt8 := dkwX9_worthOf_5 ++ dktX9_worthOf_6
def dkwX9_worthOf_4 : List UInt8 := [132, 2, 255, 42, 180, 0, 31, 28, 50, 42, 180, 0, 9, 184, 0, 94, 42, 180, 0, 34, 28, 21, 4, 116]
abbrev dktX9_worthOf_4 : List UInt8 := dkwX9_worthOf_4 ++ dktX9_worthOf_5
def dkwX9_worthOf_3 : List UInt8 := [182, 0, 174, 100, 167, 0, 9, 42, 180, 0, 34, 28, 46, 54, 4, 28, 154, 0, 6, 21, 4, 172]
abbrev dktX9_worthOf_3 : List UInt8 := dkwX9_worthOf_3 ++ dktX9_worthOf_4
def dkwX9_worthOf_2 : List UInt8 := [29, 153, 0, 29, 42, 42, 180, 0, 9, 8, 46, 182, 0, 174, 42, 6, 42, 180, 0, 9, 8, 46, 100]
abbrev dktX9_worthOf_2 : List UInt8 := dkwX9_worthOf_2 ++ dktX9_worthOf_3
def dkwX9_worthOf_1 : List UInt8 := [62, 29, 154, 0, 22, 42, 28, 182, 1, 113, 153, 0, 14, 132, 2, 1, 42, 28, 182, 1, 110, 167, 0, 94]
abbrev dktX9_worthOf_1 : List UInt8 := dkwX9_worthOf_1 ++ dktX9_worthOf_2
def dkwX9_worthOf_0 : List UInt8 := [3, 61, 42, 3, 182, 1, 110, 42, 182, 0, 180, 154, 0, 8, 28, 27, 160, 0, 7, 4, 167, 0, 4, 3]
abbrev dktX9_worthOf_0 : List UInt8 := dkwX9_worthOf_0 ++ dktX9_worthOf_1
theorem dksX9_worthOf_0 : cX9_worthOf.data.toList.drop 0 = dktX9_worthOf_0 := by decide +kernel
theorem dksX9_worthOf_1 : cX9_worthOf.data.toList.drop 24 = dktX9_worthOf_1 := dk_seg dksX9_worthOf_0 24 rfl rfl
theorem dksX9_worthOf_2 : cX9_worthOf.data.toList.drop 48 = dktX9_worthOf_2 := dk_seg dksX9_worthOf_1 24 rfl rfl
theorem dksX9_worthOf_3 : cX9_worthOf.data.toList.drop 71 = dktX9_worthOf_3 := dk_seg dksX9_worthOf_2 23 rfl rfl
theorem dksX9_worthOf_4 : cX9_worthOf.data.toList.drop 93 = dktX9_worthOf_4 := dk_seg dksX9_worthOf_3 22 rfl rfl
theorem dksX9_worthOf_5 : cX9_worthOf.data.toList.drop 117 = dktX9_worthOf_5 := dk_seg dksX9_worthOf_4 24 rfl rfl
theorem dksX9_worthOf_6 : cX9_worthOf.data.toList.drop 139 = dktX9_worthOf_6 := dk_seg dksX9_worthOf_5 22 rfl rfl
theorem dX9_worthOf_0 : decode cX9_worthOf 0 = .ok (.iconst 0, 1) := dk_3 (dk_at dksX9_worthOf_0 0 rfl rfl)
theorem dX9_worthOf_1 : decode cX9_worthOf 1 = .ok (.istore_n 2, 1) := dk_61 (dk_at dksX9_worthOf_0 1 rfl rfl)
theorem dX9_worthOf_2 : decode cX9_worthOf 2 = .ok (.aload_n 0, 1) := dk_42 (dk_at dksX9_worthOf_0 2 rfl rfl)
theorem dX9_worthOf_3 : decode cX9_worthOf 3 = .ok (.iconst 0, 1) := dk_3 (dk_at dksX9_worthOf_0 3 rfl rfl)
theorem dX9_worthOf_4 : decode cX9_worthOf 4 = .ok (.invokevirtual 366, 3) := dk_182 1 110 (dk_at dksX9_worthOf_0 4 rfl rfl)
theorem dX9_worthOf_7 : decode cX9_worthOf 7 = .ok (.aload_n 0, 1) := dk_42 (dk_at dksX9_worthOf_0 7 rfl rfl)
theorem dX9_worthOf_8 : decode cX9_worthOf 8 = .ok (.invokevirtual 180, 3) := dk_182 0 180 (dk_at dksX9_worthOf_0 8 rfl rfl)
theorem dX9_worthOf_11 : decode cX9_worthOf 11 = .ok (.ifCond .ne 8, 3) := dk_154 0 8 (dk_at dksX9_worthOf_0 11 rfl rfl)
theorem dX9_worthOf_14 : decode cX9_worthOf 14 = .ok (.iload_n 2, 1) := dk_28 (dk_at dksX9_worthOf_0 14 rfl rfl)
theorem dX9_worthOf_15 : decode cX9_worthOf 15 = .ok (.iload_n 1, 1) := dk_27 (dk_at dksX9_worthOf_0 15 rfl rfl)
theorem dX9_worthOf_16 : decode cX9_worthOf 16 = .ok (.if_icmp .ne 7, 3) := dk_160 0 7 (dk_at dksX9_worthOf_0 16 rfl rfl)
theorem dX9_worthOf_19 : decode cX9_worthOf 19 = .ok (.iconst 1, 1) := dk_4 (dk_at dksX9_worthOf_0 19 rfl rfl)
theorem dX9_worthOf_20 : decode cX9_worthOf 20 = .ok (.goto 4, 3) := dk_167 0 4 (dk_at dksX9_worthOf_0 20 rfl rfl)
theorem dX9_worthOf_23 : decode cX9_worthOf 23 = .ok (.iconst 0, 1) := dk_3 (dk_at dksX9_worthOf_0 23 rfl rfl)
theorem dX9_worthOf_24 : decode cX9_worthOf 24 = .ok (.istore_n 3, 1) := dk_62 (dk_at dksX9_worthOf_1 0 rfl rfl)
theorem dX9_worthOf_25 : decode cX9_worthOf 25 = .ok (.iload_n 3, 1) := dk_29 (dk_at dksX9_worthOf_1 1 rfl rfl)
theorem dX9_worthOf_26 : decode cX9_worthOf 26 = .ok (.ifCond .ne 22, 3) := dk_154 0 22 (dk_at dksX9_worthOf_1 2 rfl rfl)
theorem dX9_worthOf_29 : decode cX9_worthOf 29 = .ok (.aload_n 0, 1) := dk_42 (dk_at dksX9_worthOf_1 5 rfl rfl)
theorem dX9_worthOf_30 : decode cX9_worthOf 30 = .ok (.iload_n 2, 1) := dk_28 (dk_at dksX9_worthOf_1 6 rfl rfl)
theorem dX9_worthOf_31 : decode cX9_worthOf 31 = .ok (.invokevirtual 369, 3) := dk_182 1 113 (dk_at dksX9_worthOf_1 7 rfl rfl)
theorem dX9_worthOf_34 : decode cX9_worthOf 34 = .ok (.ifCond .eq 14, 3) := dk_153 0 14 (dk_at dksX9_worthOf_1 10 rfl rfl)
theorem dX9_worthOf_37 : decode cX9_worthOf 37 = .ok (.iinc 2 1, 3) := dk_132 2 1 (dk_at dksX9_worthOf_1 13 rfl rfl)
theorem dX9_worthOf_40 : decode cX9_worthOf 40 = .ok (.aload_n 0, 1) := dk_42 (dk_at dksX9_worthOf_1 16 rfl rfl)
theorem dX9_worthOf_41 : decode cX9_worthOf 41 = .ok (.iload_n 2, 1) := dk_28 (dk_at dksX9_worthOf_1 17 rfl rfl)
theorem dX9_worthOf_42 : decode cX9_worthOf 42 = .ok (.invokevirtual 366, 3) := dk_182 1 110 (dk_at dksX9_worthOf_1 18 rfl rfl)
theorem dX9_worthOf_45 : decode cX9_worthOf 45 = .ok (.goto 94, 3) := dk_167 0 94 (dk_at dksX9_worthOf_1 21 rfl rfl)
theorem dX9_worthOf_48 : decode cX9_worthOf 48 = .ok (.iload_n 3, 1) := dk_29 (dk_at dksX9_worthOf_2 0 rfl rfl)
theorem dX9_worthOf_49 : decode cX9_worthOf 49 = .ok (.ifCond .eq 29, 3) := dk_153 0 29 (dk_at dksX9_worthOf_2 1 rfl rfl)
theorem dX9_worthOf_52 : decode cX9_worthOf 52 = .ok (.aload_n 0, 1) := dk_42 (dk_at dksX9_worthOf_2 4 rfl rfl)
theorem dX9_worthOf_53 : decode cX9_worthOf 53 = .ok (.aload_n 0, 1) := dk_42 (dk_at dksX9_worthOf_2 5 rfl rfl)
theorem dX9_worthOf_54 : decode cX9_worthOf 54 = .ok (.getfield 9, 3) := dk_180 0 9 (dk_at dksX9_worthOf_2 6 rfl rfl)
theorem dX9_worthOf_57 : decode cX9_worthOf 57 = .ok (.iconst 5, 1) := dk_8 (dk_at dksX9_worthOf_2 9 rfl rfl)
theorem dX9_worthOf_58 : decode cX9_worthOf 58 = .ok (.iaload, 1) := dk_46 (dk_at dksX9_worthOf_2 10 rfl rfl)
theorem dX9_worthOf_59 : decode cX9_worthOf 59 = .ok (.invokevirtual 174, 3) := dk_182 0 174 (dk_at dksX9_worthOf_2 11 rfl rfl)
theorem dX9_worthOf_62 : decode cX9_worthOf 62 = .ok (.aload_n 0, 1) := dk_42 (dk_at dksX9_worthOf_2 14 rfl rfl)
theorem dX9_worthOf_63 : decode cX9_worthOf 63 = .ok (.iconst 3, 1) := dk_6 (dk_at dksX9_worthOf_2 15 rfl rfl)
theorem dX9_worthOf_64 : decode cX9_worthOf 64 = .ok (.aload_n 0, 1) := dk_42 (dk_at dksX9_worthOf_2 16 rfl rfl)
theorem dX9_worthOf_65 : decode cX9_worthOf 65 = .ok (.getfield 9, 3) := dk_180 0 9 (dk_at dksX9_worthOf_2 17 rfl rfl)
theorem dX9_worthOf_68 : decode cX9_worthOf 68 = .ok (.iconst 5, 1) := dk_8 (dk_at dksX9_worthOf_2 20 rfl rfl)
theorem dX9_worthOf_69 : decode cX9_worthOf 69 = .ok (.iaload, 1) := dk_46 (dk_at dksX9_worthOf_2 21 rfl rfl)
theorem dX9_worthOf_70 : decode cX9_worthOf 70 = .ok (.isub, 1) := dk_100 (dk_at dksX9_worthOf_2 22 rfl rfl)
theorem dX9_worthOf_71 : decode cX9_worthOf 71 = .ok (.invokevirtual 174, 3) := dk_182 0 174 (dk_at dksX9_worthOf_3 0 rfl rfl)
theorem dX9_worthOf_74 : decode cX9_worthOf 74 = .ok (.isub, 1) := dk_100 (dk_at dksX9_worthOf_3 3 rfl rfl)
theorem dX9_worthOf_75 : decode cX9_worthOf 75 = .ok (.goto 9, 3) := dk_167 0 9 (dk_at dksX9_worthOf_3 4 rfl rfl)
theorem dX9_worthOf_78 : decode cX9_worthOf 78 = .ok (.aload_n 0, 1) := dk_42 (dk_at dksX9_worthOf_3 7 rfl rfl)
theorem dX9_worthOf_79 : decode cX9_worthOf 79 = .ok (.getfield 34, 3) := dk_180 0 34 (dk_at dksX9_worthOf_3 8 rfl rfl)
theorem dX9_worthOf_82 : decode cX9_worthOf 82 = .ok (.iload_n 2, 1) := dk_28 (dk_at dksX9_worthOf_3 11 rfl rfl)
theorem dX9_worthOf_83 : decode cX9_worthOf 83 = .ok (.iaload, 1) := dk_46 (dk_at dksX9_worthOf_3 12 rfl rfl)
theorem dX9_worthOf_84 : decode cX9_worthOf 84 = .ok (.istore 4, 2) := dk_54 4 (dk_at dksX9_worthOf_3 13 rfl rfl)
theorem dX9_worthOf_86 : decode cX9_worthOf 86 = .ok (.iload_n 2, 1) := dk_28 (dk_at dksX9_worthOf_3 15 rfl rfl)
theorem dX9_worthOf_87 : decode cX9_worthOf 87 = .ok (.ifCond .ne 6, 3) := dk_154 0 6 (dk_at dksX9_worthOf_3 16 rfl rfl)
theorem dX9_worthOf_90 : decode cX9_worthOf 90 = .ok (.iload 4, 2) := dk_21 4 (dk_at dksX9_worthOf_3 19 rfl rfl)
theorem dX9_worthOf_92 : decode cX9_worthOf 92 = .ok (.ireturn, 1) := dk_172 (dk_at dksX9_worthOf_3 21 rfl rfl)
theorem dX9_worthOf_93 : decode cX9_worthOf 93 = .ok (.iinc 2 (-1), 3) := dk_132 2 255 (dk_at dksX9_worthOf_4 0 rfl rfl)
theorem dX9_worthOf_96 : decode cX9_worthOf 96 = .ok (.aload_n 0, 1) := dk_42 (dk_at dksX9_worthOf_4 3 rfl rfl)
theorem dX9_worthOf_97 : decode cX9_worthOf 97 = .ok (.getfield 31, 3) := dk_180 0 31 (dk_at dksX9_worthOf_4 4 rfl rfl)
theorem dX9_worthOf_100 : decode cX9_worthOf 100 = .ok (.iload_n 2, 1) := dk_28 (dk_at dksX9_worthOf_4 7 rfl rfl)
theorem dX9_worthOf_101 : decode cX9_worthOf 101 = .ok (.aaload, 1) := dk_50 (dk_at dksX9_worthOf_4 8 rfl rfl)
theorem dX9_worthOf_102 : decode cX9_worthOf 102 = .ok (.aload_n 0, 1) := dk_42 (dk_at dksX9_worthOf_4 9 rfl rfl)
theorem dX9_worthOf_103 : decode cX9_worthOf 103 = .ok (.getfield 9, 3) := dk_180 0 9 (dk_at dksX9_worthOf_4 10 rfl rfl)
theorem dX9_worthOf_106 : decode cX9_worthOf 106 = .ok (.invokestatic 94, 3) := dk_184 0 94 (dk_at dksX9_worthOf_4 13 rfl rfl)
theorem dX9_worthOf_109 : decode cX9_worthOf 109 = .ok (.aload_n 0, 1) := dk_42 (dk_at dksX9_worthOf_4 16 rfl rfl)
theorem dX9_worthOf_110 : decode cX9_worthOf 110 = .ok (.getfield 34, 3) := dk_180 0 34 (dk_at dksX9_worthOf_4 17 rfl rfl)
theorem dX9_worthOf_113 : decode cX9_worthOf 113 = .ok (.iload_n 2, 1) := dk_28 (dk_at dksX9_worthOf_4 20 rfl rfl)
theorem dX9_worthOf_114 : decode cX9_worthOf 114 = .ok (.iload 4, 2) := dk_21 4 (dk_at dksX9_worthOf_4 21 rfl rfl)
theorem dX9_worthOf_116 : decode cX9_worthOf 116 = .ok (.ineg, 1) := dk_116 (dk_at dksX9_worthOf_4 23 rfl rfl)
theorem dX9_worthOf_117 : decode cX9_worthOf 117 = .ok (.aload_n 0, 1) := dk_42 (dk_at dksX9_worthOf_5 0 rfl rfl)
theorem dX9_worthOf_118 : decode cX9_worthOf 118 = .ok (.getfield 34, 3) := dk_180 0 34 (dk_at dksX9_worthOf_5 1 rfl rfl)
theorem dX9_worthOf_121 : decode cX9_worthOf 121 = .ok (.iload_n 2, 1) := dk_28 (dk_at dksX9_worthOf_5 4 rfl rfl)
theorem dX9_worthOf_122 : decode cX9_worthOf 122 = .ok (.iaload, 1) := dk_46 (dk_at dksX9_worthOf_5 5 rfl rfl)
theorem dX9_worthOf_123 : decode cX9_worthOf 123 = .ok (.if_icmp .le 9, 3) := dk_164 0 9 (dk_at dksX9_worthOf_5 6 rfl rfl)
theorem dX9_worthOf_126 : decode cX9_worthOf 126 = .ok (.iload 4, 2) := dk_21 4 (dk_at dksX9_worthOf_5 9 rfl rfl)
theorem dX9_worthOf_128 : decode cX9_worthOf 128 = .ok (.ineg, 1) := dk_116 (dk_at dksX9_worthOf_5 11 rfl rfl)
theorem dX9_worthOf_129 : decode cX9_worthOf 129 = .ok (.goto 9, 3) := dk_167 0 9 (dk_at dksX9_worthOf_5 12 rfl rfl)
theorem dX9_worthOf_132 : decode cX9_worthOf 132 = .ok (.aload_n 0, 1) := dk_42 (dk_at dksX9_worthOf_5 15 rfl rfl)
theorem dX9_worthOf_133 : decode cX9_worthOf 133 = .ok (.getfield 34, 3) := dk_180 0 34 (dk_at dksX9_worthOf_5 16 rfl rfl)
theorem dX9_worthOf_136 : decode cX9_worthOf 136 = .ok (.iload_n 2, 1) := dk_28 (dk_at dksX9_worthOf_5 19 rfl rfl)
theorem dX9_worthOf_137 : decode cX9_worthOf 137 = .ok (.iaload, 1) := dk_46 (dk_at dksX9_worthOf_5 20 rfl rfl)
theorem dX9_worthOf_138 : decode cX9_worthOf 138 = .ok (.iastore, 1) := dk_79 (dk_at dksX9_worthOf_5 21 rfl rfl)
theorem dX9_worthOf_139 : decode cX9_worthOf 139 = .ok (.goto (-132), 3) := dk_167 255 124 (dk_at dksX9_worthOf_6 0 rfl rfl)
abbrev cX9_enter : ByteArray := prog_15_method_100_code
def yX9_enter : MethodName := ⟨RX9, "enter", "(I)V"⟩
def dkwX9_enter_1 : List UInt8 := [180, 0, 37, 27, 3, 79, 42, 180, 0, 40, 27, 3, 84, 177]
abbrev dktX9_enter_1 : List UInt8 := dkwX9_enter_1 ++ []
def dkwX9_enter_0 : List UInt8 := [42, 180, 0, 9, 42, 180, 0, 31, 27, 50, 184, 0, 94, 42, 180, 0, 34, 27, 16, 156, 79, 42]
abbrev dktX9_enter_0 : List UInt8 := dkwX9_enter_0 ++ dktX9_enter_1
theorem dksX9_enter_0 : cX9_enter.data.toList.drop 0 = dktX9_enter_0 := by decide +kernel
theorem dksX9_enter_1 : cX9_enter.data.toList.drop 22 = dktX9_enter_1 := dk_seg dksX9_enter_0 22 rfl rfl
theorem dX9_enter_0 : decode cX9_enter 0 = .ok (.aload_n 0, 1) := dk_42 (dk_at dksX9_enter_0 0 rfl rfl)
theorem dX9_enter_1 : decode cX9_enter 1 = .ok (.getfield 9, 3) := dk_180 0 9 (dk_at dksX9_enter_0 1 rfl rfl)
theorem dX9_enter_4 : decode cX9_enter 4 = .ok (.aload_n 0, 1) := dk_42 (dk_at dksX9_enter_0 4 rfl rfl)
theorem dX9_enter_5 : decode cX9_enter 5 = .ok (.getfield 31, 3) := dk_180 0 31 (dk_at dksX9_enter_0 5 rfl rfl)
theorem dX9_enter_8 : decode cX9_enter 8 = .ok (.iload_n 1, 1) := dk_27 (dk_at dksX9_enter_0 8 rfl rfl)
theorem dX9_enter_9 : decode cX9_enter 9 = .ok (.aaload, 1) := dk_50 (dk_at dksX9_enter_0 9 rfl rfl)
theorem dX9_enter_10 : decode cX9_enter 10 = .ok (.invokestatic 94, 3) := dk_184 0 94 (dk_at dksX9_enter_0 10 rfl rfl)
theorem dX9_enter_13 : decode cX9_enter 13 = .ok (.aload_n 0, 1) := dk_42 (dk_at dksX9_enter_0 13 rfl rfl)
theorem dX9_enter_14 : decode cX9_enter 14 = .ok (.getfield 34, 3) := dk_180 0 34 (dk_at dksX9_enter_0 14 rfl rfl)
theorem dX9_enter_17 : decode cX9_enter 17 = .ok (.iload_n 1, 1) := dk_27 (dk_at dksX9_enter_0 17 rfl rfl)
theorem dX9_enter_18 : decode cX9_enter 18 = .ok (.bipush (-100), 2) := dk_16 156 (dk_at dksX9_enter_0 18 rfl rfl)
theorem dX9_enter_20 : decode cX9_enter 20 = .ok (.iastore, 1) := dk_79 (dk_at dksX9_enter_0 20 rfl rfl)
theorem dX9_enter_21 : decode cX9_enter 21 = .ok (.aload_n 0, 1) := dk_42 (dk_at dksX9_enter_0 21 rfl rfl)
theorem dX9_enter_22 : decode cX9_enter 22 = .ok (.getfield 37, 3) := dk_180 0 37 (dk_at dksX9_enter_1 0 rfl rfl)
theorem dX9_enter_25 : decode cX9_enter 25 = .ok (.iload_n 1, 1) := dk_27 (dk_at dksX9_enter_1 3 rfl rfl)
theorem dX9_enter_26 : decode cX9_enter 26 = .ok (.iconst 0, 1) := dk_3 (dk_at dksX9_enter_1 4 rfl rfl)
theorem dX9_enter_27 : decode cX9_enter 27 = .ok (.iastore, 1) := dk_79 (dk_at dksX9_enter_1 5 rfl rfl)
theorem dX9_enter_28 : decode cX9_enter 28 = .ok (.aload_n 0, 1) := dk_42 (dk_at dksX9_enter_1 6 rfl rfl)
theorem dX9_enter_29 : decode cX9_enter 29 = .ok (.getfield 40, 3) := dk_180 0 40 (dk_at dksX9_enter_1 7 rfl rfl)
theorem dX9_enter_32 : decode cX9_enter 32 = .ok (.iload_n 1, 1) := dk_27 (dk_at dksX9_enter_1 10 rfl rfl)
theorem dX9_enter_33 : decode cX9_enter 33 = .ok (.iconst 0, 1) := dk_3 (dk_at dksX9_enter_1 11 rfl rfl)
theorem dX9_enter_34 : decode cX9_enter 34 = .ok (.bastore, 1) := dk_84 (dk_at dksX9_enter_1 12 rfl rfl)
theorem dX9_enter_35 : decode cX9_enter 35 = .ok (.return_, 1) := dk_177 (dk_at dksX9_enter_1 13 rfl rfl)
abbrev cX9_tryNext : ByteArray := prog_15_method_101_code
def yX9_tryNext : MethodName := ⟨RX9, "tryNext", "(I)Z"⟩
def dkwX9_tryNext_3 : List UInt8 := [154, 0, 18, 42, 180, 0, 40, 27, 4, 84, 42, 2, 182, 0, 212, 87, 4, 172, 3, 172]
abbrev dktX9_tryNext_3 : List UInt8 := dkwX9_tryNext_3 ++ []
def dkwX9_tryNext_2 : List UInt8 := [180, 0, 40, 27, 4, 84, 42, 29, 182, 0, 212, 87, 4, 172, 167, 255, 201, 42, 180, 0, 40, 27, 51]
abbrev dktX9_tryNext_2 : List UInt8 := dkwX9_tryNext_2 ++ dktX9_tryNext_3
def dkwX9_tryNext_1 : List UInt8 := [182, 0, 120, 62, 42, 180, 0, 37, 27, 92, 46, 4, 96, 79, 42, 29, 182, 0, 184, 154, 0, 18, 42]
abbrev dktX9_tryNext_1 : List UInt8 := dkwX9_tryNext_1 ++ dktX9_tryNext_2
def dkwX9_tryNext_0 : List UInt8 := [42, 5, 182, 0, 161, 61, 42, 180, 0, 37, 27, 46, 28, 162, 0, 51, 42, 42, 180, 0, 37, 27, 46, 5]
abbrev dktX9_tryNext_0 : List UInt8 := dkwX9_tryNext_0 ++ dktX9_tryNext_1
theorem dksX9_tryNext_0 : cX9_tryNext.data.toList.drop 0 = dktX9_tryNext_0 := by decide +kernel
theorem dksX9_tryNext_1 : cX9_tryNext.data.toList.drop 24 = dktX9_tryNext_1 := dk_seg dksX9_tryNext_0 24 rfl rfl
theorem dksX9_tryNext_2 : cX9_tryNext.data.toList.drop 47 = dktX9_tryNext_2 := dk_seg dksX9_tryNext_1 23 rfl rfl
theorem dksX9_tryNext_3 : cX9_tryNext.data.toList.drop 70 = dktX9_tryNext_3 := dk_seg dksX9_tryNext_2 23 rfl rfl
theorem dX9_tryNext_0 : decode cX9_tryNext 0 = .ok (.aload_n 0, 1) := dk_42 (dk_at dksX9_tryNext_0 0 rfl rfl)
theorem dX9_tryNext_1 : decode cX9_tryNext 1 = .ok (.iconst 2, 1) := dk_5 (dk_at dksX9_tryNext_0 1 rfl rfl)
theorem dX9_tryNext_2 : decode cX9_tryNext 2 = .ok (.invokevirtual 161, 3) := dk_182 0 161 (dk_at dksX9_tryNext_0 2 rfl rfl)
theorem dX9_tryNext_5 : decode cX9_tryNext 5 = .ok (.istore_n 2, 1) := dk_61 (dk_at dksX9_tryNext_0 5 rfl rfl)
theorem dX9_tryNext_6 : decode cX9_tryNext 6 = .ok (.aload_n 0, 1) := dk_42 (dk_at dksX9_tryNext_0 6 rfl rfl)
theorem dX9_tryNext_7 : decode cX9_tryNext 7 = .ok (.getfield 37, 3) := dk_180 0 37 (dk_at dksX9_tryNext_0 7 rfl rfl)
theorem dX9_tryNext_10 : decode cX9_tryNext 10 = .ok (.iload_n 1, 1) := dk_27 (dk_at dksX9_tryNext_0 10 rfl rfl)
theorem dX9_tryNext_11 : decode cX9_tryNext 11 = .ok (.iaload, 1) := dk_46 (dk_at dksX9_tryNext_0 11 rfl rfl)
theorem dX9_tryNext_12 : decode cX9_tryNext 12 = .ok (.iload_n 2, 1) := dk_28 (dk_at dksX9_tryNext_0 12 rfl rfl)
theorem dX9_tryNext_13 : decode cX9_tryNext 13 = .ok (.if_icmp .ge 51, 3) := dk_162 0 51 (dk_at dksX9_tryNext_0 13 rfl rfl)
theorem dX9_tryNext_16 : decode cX9_tryNext 16 = .ok (.aload_n 0, 1) := dk_42 (dk_at dksX9_tryNext_0 16 rfl rfl)
theorem dX9_tryNext_17 : decode cX9_tryNext 17 = .ok (.aload_n 0, 1) := dk_42 (dk_at dksX9_tryNext_0 17 rfl rfl)
theorem dX9_tryNext_18 : decode cX9_tryNext 18 = .ok (.getfield 37, 3) := dk_180 0 37 (dk_at dksX9_tryNext_0 18 rfl rfl)
theorem dX9_tryNext_21 : decode cX9_tryNext 21 = .ok (.iload_n 1, 1) := dk_27 (dk_at dksX9_tryNext_0 21 rfl rfl)
theorem dX9_tryNext_22 : decode cX9_tryNext 22 = .ok (.iaload, 1) := dk_46 (dk_at dksX9_tryNext_0 22 rfl rfl)
theorem dX9_tryNext_23 : decode cX9_tryNext 23 = .ok (.iconst 2, 1) := dk_5 (dk_at dksX9_tryNext_0 23 rfl rfl)
theorem dX9_tryNext_24 : decode cX9_tryNext 24 = .ok (.invokevirtual 120, 3) := dk_182 0 120 (dk_at dksX9_tryNext_1 0 rfl rfl)
theorem dX9_tryNext_27 : decode cX9_tryNext 27 = .ok (.istore_n 3, 1) := dk_62 (dk_at dksX9_tryNext_1 3 rfl rfl)
theorem dX9_tryNext_28 : decode cX9_tryNext 28 = .ok (.aload_n 0, 1) := dk_42 (dk_at dksX9_tryNext_1 4 rfl rfl)
theorem dX9_tryNext_29 : decode cX9_tryNext 29 = .ok (.getfield 37, 3) := dk_180 0 37 (dk_at dksX9_tryNext_1 5 rfl rfl)
theorem dX9_tryNext_32 : decode cX9_tryNext 32 = .ok (.iload_n 1, 1) := dk_27 (dk_at dksX9_tryNext_1 8 rfl rfl)
theorem dX9_tryNext_33 : decode cX9_tryNext 33 = .ok (.dup2, 1) := dk_92 (dk_at dksX9_tryNext_1 9 rfl rfl)
theorem dX9_tryNext_34 : decode cX9_tryNext 34 = .ok (.iaload, 1) := dk_46 (dk_at dksX9_tryNext_1 10 rfl rfl)
theorem dX9_tryNext_35 : decode cX9_tryNext 35 = .ok (.iconst 1, 1) := dk_4 (dk_at dksX9_tryNext_1 11 rfl rfl)
theorem dX9_tryNext_36 : decode cX9_tryNext 36 = .ok (.iadd, 1) := dk_96 (dk_at dksX9_tryNext_1 12 rfl rfl)
theorem dX9_tryNext_37 : decode cX9_tryNext 37 = .ok (.iastore, 1) := dk_79 (dk_at dksX9_tryNext_1 13 rfl rfl)
theorem dX9_tryNext_38 : decode cX9_tryNext 38 = .ok (.aload_n 0, 1) := dk_42 (dk_at dksX9_tryNext_1 14 rfl rfl)
theorem dX9_tryNext_39 : decode cX9_tryNext 39 = .ok (.iload_n 3, 1) := dk_29 (dk_at dksX9_tryNext_1 15 rfl rfl)
theorem dX9_tryNext_40 : decode cX9_tryNext 40 = .ok (.invokevirtual 184, 3) := dk_182 0 184 (dk_at dksX9_tryNext_1 16 rfl rfl)
theorem dX9_tryNext_43 : decode cX9_tryNext 43 = .ok (.ifCond .ne 18, 3) := dk_154 0 18 (dk_at dksX9_tryNext_1 19 rfl rfl)
theorem dX9_tryNext_46 : decode cX9_tryNext 46 = .ok (.aload_n 0, 1) := dk_42 (dk_at dksX9_tryNext_1 22 rfl rfl)
theorem dX9_tryNext_47 : decode cX9_tryNext 47 = .ok (.getfield 40, 3) := dk_180 0 40 (dk_at dksX9_tryNext_2 0 rfl rfl)
theorem dX9_tryNext_50 : decode cX9_tryNext 50 = .ok (.iload_n 1, 1) := dk_27 (dk_at dksX9_tryNext_2 3 rfl rfl)
theorem dX9_tryNext_51 : decode cX9_tryNext 51 = .ok (.iconst 1, 1) := dk_4 (dk_at dksX9_tryNext_2 4 rfl rfl)
theorem dX9_tryNext_52 : decode cX9_tryNext 52 = .ok (.bastore, 1) := dk_84 (dk_at dksX9_tryNext_2 5 rfl rfl)
theorem dX9_tryNext_53 : decode cX9_tryNext 53 = .ok (.aload_n 0, 1) := dk_42 (dk_at dksX9_tryNext_2 6 rfl rfl)
theorem dX9_tryNext_54 : decode cX9_tryNext 54 = .ok (.iload_n 3, 1) := dk_29 (dk_at dksX9_tryNext_2 7 rfl rfl)
theorem dX9_tryNext_55 : decode cX9_tryNext 55 = .ok (.invokevirtual 212, 3) := dk_182 0 212 (dk_at dksX9_tryNext_2 8 rfl rfl)
theorem dX9_tryNext_58 : decode cX9_tryNext 58 = .ok (.pop, 1) := dk_87 (dk_at dksX9_tryNext_2 11 rfl rfl)
theorem dX9_tryNext_59 : decode cX9_tryNext 59 = .ok (.iconst 1, 1) := dk_4 (dk_at dksX9_tryNext_2 12 rfl rfl)
theorem dX9_tryNext_60 : decode cX9_tryNext 60 = .ok (.ireturn, 1) := dk_172 (dk_at dksX9_tryNext_2 13 rfl rfl)
theorem dX9_tryNext_61 : decode cX9_tryNext 61 = .ok (.goto (-55), 3) := dk_167 255 201 (dk_at dksX9_tryNext_2 14 rfl rfl)
theorem dX9_tryNext_64 : decode cX9_tryNext 64 = .ok (.aload_n 0, 1) := dk_42 (dk_at dksX9_tryNext_2 17 rfl rfl)
theorem dX9_tryNext_65 : decode cX9_tryNext 65 = .ok (.getfield 40, 3) := dk_180 0 40 (dk_at dksX9_tryNext_2 18 rfl rfl)
theorem dX9_tryNext_68 : decode cX9_tryNext 68 = .ok (.iload_n 1, 1) := dk_27 (dk_at dksX9_tryNext_2 21 rfl rfl)
theorem dX9_tryNext_69 : decode cX9_tryNext 69 = .ok (.baload, 1) := dk_51 (dk_at dksX9_tryNext_2 22 rfl rfl)
theorem dX9_tryNext_70 : decode cX9_tryNext 70 = .ok (.ifCond .ne 18, 3) := dk_154 0 18 (dk_at dksX9_tryNext_3 0 rfl rfl)
theorem dX9_tryNext_73 : decode cX9_tryNext 73 = .ok (.aload_n 0, 1) := dk_42 (dk_at dksX9_tryNext_3 3 rfl rfl)
theorem dX9_tryNext_74 : decode cX9_tryNext 74 = .ok (.getfield 40, 3) := dk_180 0 40 (dk_at dksX9_tryNext_3 4 rfl rfl)
theorem dX9_tryNext_77 : decode cX9_tryNext 77 = .ok (.iload_n 1, 1) := dk_27 (dk_at dksX9_tryNext_3 7 rfl rfl)
theorem dX9_tryNext_78 : decode cX9_tryNext 78 = .ok (.iconst 1, 1) := dk_4 (dk_at dksX9_tryNext_3 8 rfl rfl)
theorem dX9_tryNext_79 : decode cX9_tryNext 79 = .ok (.bastore, 1) := dk_84 (dk_at dksX9_tryNext_3 9 rfl rfl)
theorem dX9_tryNext_80 : decode cX9_tryNext 80 = .ok (.aload_n 0, 1) := dk_42 (dk_at dksX9_tryNext_3 10 rfl rfl)
theorem dX9_tryNext_81 : decode cX9_tryNext 81 = .ok (.iconst (-1), 1) := dk_2 (dk_at dksX9_tryNext_3 11 rfl rfl)
theorem dX9_tryNext_82 : decode cX9_tryNext 82 = .ok (.invokevirtual 212, 3) := dk_182 0 212 (dk_at dksX9_tryNext_3 12 rfl rfl)
theorem dX9_tryNext_85 : decode cX9_tryNext 85 = .ok (.pop, 1) := dk_87 (dk_at dksX9_tryNext_3 15 rfl rfl)
theorem dX9_tryNext_86 : decode cX9_tryNext 86 = .ok (.iconst 1, 1) := dk_4 (dk_at dksX9_tryNext_3 16 rfl rfl)
theorem dX9_tryNext_87 : decode cX9_tryNext 87 = .ok (.ireturn, 1) := dk_172 (dk_at dksX9_tryNext_3 17 rfl rfl)
theorem dX9_tryNext_88 : decode cX9_tryNext 88 = .ok (.iconst 0, 1) := dk_3 (dk_at dksX9_tryNext_3 18 rfl rfl)
theorem dX9_tryNext_89 : decode cX9_tryNext 89 = .ok (.ireturn, 1) := dk_172 (dk_at dksX9_tryNext_3 19 rfl rfl)
abbrev cX9_best : ByteArray := prog_15_method_104_code
def yX9_best : MethodName := ⟨RX9, "best", "(I)I"⟩
def dkwX9_best_5 : List UInt8 := [172]
abbrev dktX9_best_5 : List UInt8 := dkwX9_best_5 ++ []
def dkwX9_best_4 : List UInt8 := [28, 2, 159, 0, 9, 21, 7, 29, 162, 0, 9, 21, 5, 61, 21, 7, 62, 132, 5, 1, 167, 255, 184, 28]
abbrev dktX9_best_4 : List UInt8 := dkwX9_best_4 ++ dktX9_best_5
def dkwX9_best_3 : List UInt8 := [182, 0, 212, 87, 42, 27, 4, 100, 182, 1, 116, 54, 7, 42, 180, 0, 28, 42, 180, 0, 9, 184, 0, 94]
abbrev dktX9_best_3 : List UInt8 := dkwX9_best_3 ++ dktX9_best_4
def dkwX9_best_2 : List UInt8 := [162, 0, 71, 42, 21, 5, 5, 182, 0, 120, 54, 6, 42, 21, 6, 182, 0, 184, 154, 0, 47, 42, 21, 6]
abbrev dktX9_best_2 : List UInt8 := dkwX9_best_2 ++ dktX9_best_3
def dkwX9_best_1 : List UInt8 := [182, 0, 161, 54, 4, 42, 180, 0, 9, 42, 180, 0, 28, 184, 0, 94, 3, 54, 5, 21, 5, 21, 4]
abbrev dktX9_best_1 : List UInt8 := dkwX9_best_1 ++ dktX9_best_2
def dkwX9_best_0 : List UInt8 := [42, 3, 181, 0, 83, 42, 27, 4, 6, 4, 182, 0, 201, 153, 0, 5, 3, 172, 2, 61, 3, 62, 42, 5]
abbrev dktX9_best_0 : List UInt8 := dkwX9_best_0 ++ dktX9_best_1
theorem dksX9_best_0 : cX9_best.data.toList.drop 0 = dktX9_best_0 := by decide +kernel
theorem dksX9_best_1 : cX9_best.data.toList.drop 24 = dktX9_best_1 := dk_seg dksX9_best_0 24 rfl rfl
theorem dksX9_best_2 : cX9_best.data.toList.drop 47 = dktX9_best_2 := dk_seg dksX9_best_1 23 rfl rfl
theorem dksX9_best_3 : cX9_best.data.toList.drop 71 = dktX9_best_3 := dk_seg dksX9_best_2 24 rfl rfl
theorem dksX9_best_4 : cX9_best.data.toList.drop 95 = dktX9_best_4 := dk_seg dksX9_best_3 24 rfl rfl
theorem dksX9_best_5 : cX9_best.data.toList.drop 119 = dktX9_best_5 := dk_seg dksX9_best_4 24 rfl rfl
theorem dX9_best_0 : decode cX9_best 0 = .ok (.aload_n 0, 1) := dk_42 (dk_at dksX9_best_0 0 rfl rfl)
theorem dX9_best_1 : decode cX9_best 1 = .ok (.iconst 0, 1) := dk_3 (dk_at dksX9_best_0 1 rfl rfl)
theorem dX9_best_2 : decode cX9_best 2 = .ok (.putfield 83, 3) := dk_181 0 83 (dk_at dksX9_best_0 2 rfl rfl)
theorem dX9_best_5 : decode cX9_best 5 = .ok (.aload_n 0, 1) := dk_42 (dk_at dksX9_best_0 5 rfl rfl)
theorem dX9_best_6 : decode cX9_best 6 = .ok (.iload_n 1, 1) := dk_27 (dk_at dksX9_best_0 6 rfl rfl)
theorem dX9_best_7 : decode cX9_best 7 = .ok (.iconst 1, 1) := dk_4 (dk_at dksX9_best_0 7 rfl rfl)
theorem dX9_best_8 : decode cX9_best 8 = .ok (.iconst 3, 1) := dk_6 (dk_at dksX9_best_0 8 rfl rfl)
theorem dX9_best_9 : decode cX9_best 9 = .ok (.iconst 1, 1) := dk_4 (dk_at dksX9_best_0 9 rfl rfl)
theorem dX9_best_10 : decode cX9_best 10 = .ok (.invokevirtual 201, 3) := dk_182 0 201 (dk_at dksX9_best_0 10 rfl rfl)
theorem dX9_best_13 : decode cX9_best 13 = .ok (.ifCond .eq 5, 3) := dk_153 0 5 (dk_at dksX9_best_0 13 rfl rfl)
theorem dX9_best_16 : decode cX9_best 16 = .ok (.iconst 0, 1) := dk_3 (dk_at dksX9_best_0 16 rfl rfl)
theorem dX9_best_17 : decode cX9_best 17 = .ok (.ireturn, 1) := dk_172 (dk_at dksX9_best_0 17 rfl rfl)
theorem dX9_best_18 : decode cX9_best 18 = .ok (.iconst (-1), 1) := dk_2 (dk_at dksX9_best_0 18 rfl rfl)
theorem dX9_best_19 : decode cX9_best 19 = .ok (.istore_n 2, 1) := dk_61 (dk_at dksX9_best_0 19 rfl rfl)
theorem dX9_best_20 : decode cX9_best 20 = .ok (.iconst 0, 1) := dk_3 (dk_at dksX9_best_0 20 rfl rfl)
theorem dX9_best_21 : decode cX9_best 21 = .ok (.istore_n 3, 1) := dk_62 (dk_at dksX9_best_0 21 rfl rfl)
theorem dX9_best_22 : decode cX9_best 22 = .ok (.aload_n 0, 1) := dk_42 (dk_at dksX9_best_0 22 rfl rfl)
theorem dX9_best_23 : decode cX9_best 23 = .ok (.iconst 2, 1) := dk_5 (dk_at dksX9_best_0 23 rfl rfl)
theorem dX9_best_24 : decode cX9_best 24 = .ok (.invokevirtual 161, 3) := dk_182 0 161 (dk_at dksX9_best_1 0 rfl rfl)
theorem dX9_best_27 : decode cX9_best 27 = .ok (.istore 4, 2) := dk_54 4 (dk_at dksX9_best_1 3 rfl rfl)
theorem dX9_best_29 : decode cX9_best 29 = .ok (.aload_n 0, 1) := dk_42 (dk_at dksX9_best_1 5 rfl rfl)
theorem dX9_best_30 : decode cX9_best 30 = .ok (.getfield 9, 3) := dk_180 0 9 (dk_at dksX9_best_1 6 rfl rfl)
theorem dX9_best_33 : decode cX9_best 33 = .ok (.aload_n 0, 1) := dk_42 (dk_at dksX9_best_1 9 rfl rfl)
theorem dX9_best_34 : decode cX9_best 34 = .ok (.getfield 28, 3) := dk_180 0 28 (dk_at dksX9_best_1 10 rfl rfl)
theorem dX9_best_37 : decode cX9_best 37 = .ok (.invokestatic 94, 3) := dk_184 0 94 (dk_at dksX9_best_1 13 rfl rfl)
theorem dX9_best_40 : decode cX9_best 40 = .ok (.iconst 0, 1) := dk_3 (dk_at dksX9_best_1 16 rfl rfl)
theorem dX9_best_41 : decode cX9_best 41 = .ok (.istore 5, 2) := dk_54 5 (dk_at dksX9_best_1 17 rfl rfl)
theorem dX9_best_43 : decode cX9_best 43 = .ok (.iload 5, 2) := dk_21 5 (dk_at dksX9_best_1 19 rfl rfl)
theorem dX9_best_45 : decode cX9_best 45 = .ok (.iload 4, 2) := dk_21 4 (dk_at dksX9_best_1 21 rfl rfl)
theorem dX9_best_47 : decode cX9_best 47 = .ok (.if_icmp .ge 71, 3) := dk_162 0 71 (dk_at dksX9_best_2 0 rfl rfl)
theorem dX9_best_50 : decode cX9_best 50 = .ok (.aload_n 0, 1) := dk_42 (dk_at dksX9_best_2 3 rfl rfl)
theorem dX9_best_51 : decode cX9_best 51 = .ok (.iload 5, 2) := dk_21 5 (dk_at dksX9_best_2 4 rfl rfl)
theorem dX9_best_53 : decode cX9_best 53 = .ok (.iconst 2, 1) := dk_5 (dk_at dksX9_best_2 6 rfl rfl)
theorem dX9_best_54 : decode cX9_best 54 = .ok (.invokevirtual 120, 3) := dk_182 0 120 (dk_at dksX9_best_2 7 rfl rfl)
theorem dX9_best_57 : decode cX9_best 57 = .ok (.istore 6, 2) := dk_54 6 (dk_at dksX9_best_2 10 rfl rfl)
theorem dX9_best_59 : decode cX9_best 59 = .ok (.aload_n 0, 1) := dk_42 (dk_at dksX9_best_2 12 rfl rfl)
theorem dX9_best_60 : decode cX9_best 60 = .ok (.iload 6, 2) := dk_21 6 (dk_at dksX9_best_2 13 rfl rfl)
theorem dX9_best_62 : decode cX9_best 62 = .ok (.invokevirtual 184, 3) := dk_182 0 184 (dk_at dksX9_best_2 15 rfl rfl)
theorem dX9_best_65 : decode cX9_best 65 = .ok (.ifCond .ne 47, 3) := dk_154 0 47 (dk_at dksX9_best_2 18 rfl rfl)
theorem dX9_best_68 : decode cX9_best 68 = .ok (.aload_n 0, 1) := dk_42 (dk_at dksX9_best_2 21 rfl rfl)
theorem dX9_best_69 : decode cX9_best 69 = .ok (.iload 6, 2) := dk_21 6 (dk_at dksX9_best_2 22 rfl rfl)
theorem dX9_best_71 : decode cX9_best 71 = .ok (.invokevirtual 212, 3) := dk_182 0 212 (dk_at dksX9_best_3 0 rfl rfl)
theorem dX9_best_74 : decode cX9_best 74 = .ok (.pop, 1) := dk_87 (dk_at dksX9_best_3 3 rfl rfl)
theorem dX9_best_75 : decode cX9_best 75 = .ok (.aload_n 0, 1) := dk_42 (dk_at dksX9_best_3 4 rfl rfl)
theorem dX9_best_76 : decode cX9_best 76 = .ok (.iload_n 1, 1) := dk_27 (dk_at dksX9_best_3 5 rfl rfl)
theorem dX9_best_77 : decode cX9_best 77 = .ok (.iconst 1, 1) := dk_4 (dk_at dksX9_best_3 6 rfl rfl)
theorem dX9_best_78 : decode cX9_best 78 = .ok (.isub, 1) := dk_100 (dk_at dksX9_best_3 7 rfl rfl)
theorem dX9_best_79 : decode cX9_best 79 = .ok (.invokevirtual 372, 3) := dk_182 1 116 (dk_at dksX9_best_3 8 rfl rfl)
theorem dX9_best_82 : decode cX9_best 82 = .ok (.istore 7, 2) := dk_54 7 (dk_at dksX9_best_3 11 rfl rfl)
theorem dX9_best_84 : decode cX9_best 84 = .ok (.aload_n 0, 1) := dk_42 (dk_at dksX9_best_3 13 rfl rfl)
theorem dX9_best_85 : decode cX9_best 85 = .ok (.getfield 28, 3) := dk_180 0 28 (dk_at dksX9_best_3 14 rfl rfl)
theorem dX9_best_88 : decode cX9_best 88 = .ok (.aload_n 0, 1) := dk_42 (dk_at dksX9_best_3 17 rfl rfl)
theorem dX9_best_89 : decode cX9_best 89 = .ok (.getfield 9, 3) := dk_180 0 9 (dk_at dksX9_best_3 18 rfl rfl)
theorem dX9_best_92 : decode cX9_best 92 = .ok (.invokestatic 94, 3) := dk_184 0 94 (dk_at dksX9_best_3 21 rfl rfl)
theorem dX9_best_95 : decode cX9_best 95 = .ok (.iload_n 2, 1) := dk_28 (dk_at dksX9_best_4 0 rfl rfl)
theorem dX9_best_96 : decode cX9_best 96 = .ok (.iconst (-1), 1) := dk_2 (dk_at dksX9_best_4 1 rfl rfl)
theorem dX9_best_97 : decode cX9_best 97 = .ok (.if_icmp .eq 9, 3) := dk_159 0 9 (dk_at dksX9_best_4 2 rfl rfl)
theorem dX9_best_100 : decode cX9_best 100 = .ok (.iload 7, 2) := dk_21 7 (dk_at dksX9_best_4 5 rfl rfl)
theorem dX9_best_102 : decode cX9_best 102 = .ok (.iload_n 3, 1) := dk_29 (dk_at dksX9_best_4 7 rfl rfl)
theorem dX9_best_103 : decode cX9_best 103 = .ok (.if_icmp .ge 9, 3) := dk_162 0 9 (dk_at dksX9_best_4 8 rfl rfl)
theorem dX9_best_106 : decode cX9_best 106 = .ok (.iload 5, 2) := dk_21 5 (dk_at dksX9_best_4 11 rfl rfl)
theorem dX9_best_108 : decode cX9_best 108 = .ok (.istore_n 2, 1) := dk_61 (dk_at dksX9_best_4 13 rfl rfl)
theorem dX9_best_109 : decode cX9_best 109 = .ok (.iload 7, 2) := dk_21 7 (dk_at dksX9_best_4 14 rfl rfl)
theorem dX9_best_111 : decode cX9_best 111 = .ok (.istore_n 3, 1) := dk_62 (dk_at dksX9_best_4 16 rfl rfl)
theorem dX9_best_112 : decode cX9_best 112 = .ok (.iinc 5 1, 3) := dk_132 5 1 (dk_at dksX9_best_4 17 rfl rfl)
theorem dX9_best_115 : decode cX9_best 115 = .ok (.goto (-72), 3) := dk_167 255 184 (dk_at dksX9_best_4 20 rfl rfl)
theorem dX9_best_118 : decode cX9_best 118 = .ok (.iload_n 2, 1) := dk_28 (dk_at dksX9_best_4 23 rfl rfl)
theorem dX9_best_119 : decode cX9_best 119 = .ok (.ireturn, 1) := dk_172 (dk_at dksX9_best_5 0 rfl rfl)
abbrev cX9_litShare : ByteArray := prog_15_method_105_code
def yX9_litShare : MethodName := ⟨RX9, "litShare", "()F"⟩
def dkwX9_litShare_1 : List UInt8 := [180, 0, 9, 4, 46, 104, 134, 110, 174]
abbrev dktX9_litShare_1 : List UInt8 := dkwX9_litShare_1 ++ []
def dkwX9_litShare_0 : List UInt8 := [42, 3, 181, 0, 83, 42, 182, 0, 149, 42, 3, 182, 1, 88, 134, 42, 180, 0, 9, 3, 46, 42]
abbrev dktX9_litShare_0 : List UInt8 := dkwX9_litShare_0 ++ dktX9_litShare_1
theorem dksX9_litShare_0 : cX9_litShare.data.toList.drop 0 = dktX9_litShare_0 := by decide +kernel
theorem dksX9_litShare_1 : cX9_litShare.data.toList.drop 22 = dktX9_litShare_1 := dk_seg dksX9_litShare_0 22 rfl rfl
theorem dX9_litShare_0 : decode cX9_litShare 0 = .ok (.aload_n 0, 1) := dk_42 (dk_at dksX9_litShare_0 0 rfl rfl)
theorem dX9_litShare_1 : decode cX9_litShare 1 = .ok (.iconst 0, 1) := dk_3 (dk_at dksX9_litShare_0 1 rfl rfl)
theorem dX9_litShare_2 : decode cX9_litShare 2 = .ok (.putfield 83, 3) := dk_181 0 83 (dk_at dksX9_litShare_0 2 rfl rfl)
theorem dX9_litShare_5 : decode cX9_litShare 5 = .ok (.aload_n 0, 1) := dk_42 (dk_at dksX9_litShare_0 5 rfl rfl)
theorem dX9_litShare_6 : decode cX9_litShare 6 = .ok (.invokevirtual 149, 3) := dk_182 0 149 (dk_at dksX9_litShare_0 6 rfl rfl)
theorem dX9_litShare_9 : decode cX9_litShare 9 = .ok (.aload_n 0, 1) := dk_42 (dk_at dksX9_litShare_0 9 rfl rfl)
theorem dX9_litShare_10 : decode cX9_litShare 10 = .ok (.iconst 0, 1) := dk_3 (dk_at dksX9_litShare_0 10 rfl rfl)
theorem dX9_litShare_11 : decode cX9_litShare 11 = .ok (.invokevirtual 344, 3) := dk_182 1 88 (dk_at dksX9_litShare_0 11 rfl rfl)
theorem dX9_litShare_14 : decode cX9_litShare 14 = .ok (.i2f, 1) := dk_134 (dk_at dksX9_litShare_0 14 rfl rfl)
theorem dX9_litShare_15 : decode cX9_litShare 15 = .ok (.aload_n 0, 1) := dk_42 (dk_at dksX9_litShare_0 15 rfl rfl)
theorem dX9_litShare_16 : decode cX9_litShare 16 = .ok (.getfield 9, 3) := dk_180 0 9 (dk_at dksX9_litShare_0 16 rfl rfl)
theorem dX9_litShare_19 : decode cX9_litShare 19 = .ok (.iconst 0, 1) := dk_3 (dk_at dksX9_litShare_0 19 rfl rfl)
theorem dX9_litShare_20 : decode cX9_litShare 20 = .ok (.iaload, 1) := dk_46 (dk_at dksX9_litShare_0 20 rfl rfl)
theorem dX9_litShare_21 : decode cX9_litShare 21 = .ok (.aload_n 0, 1) := dk_42 (dk_at dksX9_litShare_0 21 rfl rfl)
theorem dX9_litShare_22 : decode cX9_litShare 22 = .ok (.getfield 9, 3) := dk_180 0 9 (dk_at dksX9_litShare_1 0 rfl rfl)
theorem dX9_litShare_25 : decode cX9_litShare 25 = .ok (.iconst 1, 1) := dk_4 (dk_at dksX9_litShare_1 3 rfl rfl)
theorem dX9_litShare_26 : decode cX9_litShare 26 = .ok (.iaload, 1) := dk_46 (dk_at dksX9_litShare_1 4 rfl rfl)
theorem dX9_litShare_27 : decode cX9_litShare 27 = .ok (.imul, 1) := dk_104 (dk_at dksX9_litShare_1 5 rfl rfl)
theorem dX9_litShare_28 : decode cX9_litShare 28 = .ok (.i2f, 1) := dk_134 (dk_at dksX9_litShare_1 6 rfl rfl)
theorem dX9_litShare_29 : decode cX9_litShare 29 = .ok (.fdiv, 1) := dk_110 (dk_at dksX9_litShare_1 7 rfl rfl)
theorem dX9_litShare_30 : decode cX9_litShare 30 = .ok (.freturn, 1) := dk_174 (dk_at dksX9_litShare_1 8 rfl rfl)
abbrev cX9_meanSteps : ByteArray := prog_15_method_106_code
def yX9_meanSteps : MethodName := ⟨RX9, "meanSteps", "()D"⟩
def dkwX9_meanSteps_3 : List UInt8 := [132, 4, 1, 167, 255, 205, 28, 154, 0, 7, 14, 167, 0, 8, 27, 135, 28, 135, 111, 175]
abbrev dktX9_meanSteps_3 : List UInt8 := dkwX9_meanSteps_3 ++ []
def dkwX9_meanSteps_2 : List UInt8 := [3, 167, 0, 5, 21, 5, 96, 60, 28, 21, 5, 2, 160, 0, 7, 3, 167, 0, 4, 4, 96, 61]
abbrev dktX9_meanSteps_2 : List UInt8 := dkwX9_meanSteps_2 ++ dktX9_meanSteps_3
def dkwX9_meanSteps_1 : List UInt8 := [29, 162, 0, 51, 42, 42, 21, 4, 7, 182, 0, 120, 182, 1, 98, 54, 5, 27, 21, 5, 2, 160, 0, 7]
abbrev dktX9_meanSteps_1 : List UInt8 := dkwX9_meanSteps_1 ++ dktX9_meanSteps_2
def dkwX9_meanSteps_0 : List UInt8 := [42, 3, 181, 0, 83, 42, 182, 1, 83, 3, 60, 3, 61, 42, 7, 182, 0, 161, 62, 3, 54, 4, 21, 4]
abbrev dktX9_meanSteps_0 : List UInt8 := dkwX9_meanSteps_0 ++ dktX9_meanSteps_1
theorem dksX9_meanSteps_0 : cX9_meanSteps.data.toList.drop 0 = dktX9_meanSteps_0 := by decide +kernel
theorem dksX9_meanSteps_1 : cX9_meanSteps.data.toList.drop 24 = dktX9_meanSteps_1 := dk_seg dksX9_meanSteps_0 24 rfl rfl
theorem dksX9_meanSteps_2 : cX9_meanSteps.data.toList.drop 48 = dktX9_meanSteps_2 := dk_seg dksX9_meanSteps_1 24 rfl rfl
theorem dksX9_meanSteps_3 : cX9_meanSteps.data.toList.drop 70 = dktX9_meanSteps_3 := dk_seg dksX9_meanSteps_2 22 rfl rfl
theorem dX9_meanSteps_0 : decode cX9_meanSteps 0 = .ok (.aload_n 0, 1) := dk_42 (dk_at dksX9_meanSteps_0 0 rfl rfl)
theorem dX9_meanSteps_1 : decode cX9_meanSteps 1 = .ok (.iconst 0, 1) := dk_3 (dk_at dksX9_meanSteps_0 1 rfl rfl)
theorem dX9_meanSteps_2 : decode cX9_meanSteps 2 = .ok (.putfield 83, 3) := dk_181 0 83 (dk_at dksX9_meanSteps_0 2 rfl rfl)
theorem dX9_meanSteps_5 : decode cX9_meanSteps 5 = .ok (.aload_n 0, 1) := dk_42 (dk_at dksX9_meanSteps_0 5 rfl rfl)
theorem dX9_meanSteps_6 : decode cX9_meanSteps 6 = .ok (.invokevirtual 339, 3) := dk_182 1 83 (dk_at dksX9_meanSteps_0 6 rfl rfl)
theorem dX9_meanSteps_9 : decode cX9_meanSteps 9 = .ok (.iconst 0, 1) := dk_3 (dk_at dksX9_meanSteps_0 9 rfl rfl)
theorem dX9_meanSteps_10 : decode cX9_meanSteps 10 = .ok (.istore_n 1, 1) := dk_60 (dk_at dksX9_meanSteps_0 10 rfl rfl)
theorem dX9_meanSteps_11 : decode cX9_meanSteps 11 = .ok (.iconst 0, 1) := dk_3 (dk_at dksX9_meanSteps_0 11 rfl rfl)
theorem dX9_meanSteps_12 : decode cX9_meanSteps 12 = .ok (.istore_n 2, 1) := dk_61 (dk_at dksX9_meanSteps_0 12 rfl rfl)
theorem dX9_meanSteps_13 : decode cX9_meanSteps 13 = .ok (.aload_n 0, 1) := dk_42 (dk_at dksX9_meanSteps_0 13 rfl rfl)
theorem dX9_meanSteps_14 : decode cX9_meanSteps 14 = .ok (.iconst 4, 1) := dk_7 (dk_at dksX9_meanSteps_0 14 rfl rfl)
theorem dX9_meanSteps_15 : decode cX9_meanSteps 15 = .ok (.invokevirtual 161, 3) := dk_182 0 161 (dk_at dksX9_meanSteps_0 15 rfl rfl)
theorem dX9_meanSteps_18 : decode cX9_meanSteps 18 = .ok (.istore_n 3, 1) := dk_62 (dk_at dksX9_meanSteps_0 18 rfl rfl)
theorem dX9_meanSteps_19 : decode cX9_meanSteps 19 = .ok (.iconst 0, 1) := dk_3 (dk_at dksX9_meanSteps_0 19 rfl rfl)
theorem dX9_meanSteps_20 : decode cX9_meanSteps 20 = .ok (.istore 4, 2) := dk_54 4 (dk_at dksX9_meanSteps_0 20 rfl rfl)
theorem dX9_meanSteps_22 : decode cX9_meanSteps 22 = .ok (.iload 4, 2) := dk_21 4 (dk_at dksX9_meanSteps_0 22 rfl rfl)
theorem dX9_meanSteps_24 : decode cX9_meanSteps 24 = .ok (.iload_n 3, 1) := dk_29 (dk_at dksX9_meanSteps_1 0 rfl rfl)
theorem dX9_meanSteps_25 : decode cX9_meanSteps 25 = .ok (.if_icmp .ge 51, 3) := dk_162 0 51 (dk_at dksX9_meanSteps_1 1 rfl rfl)
theorem dX9_meanSteps_28 : decode cX9_meanSteps 28 = .ok (.aload_n 0, 1) := dk_42 (dk_at dksX9_meanSteps_1 4 rfl rfl)
theorem dX9_meanSteps_29 : decode cX9_meanSteps 29 = .ok (.aload_n 0, 1) := dk_42 (dk_at dksX9_meanSteps_1 5 rfl rfl)
theorem dX9_meanSteps_30 : decode cX9_meanSteps 30 = .ok (.iload 4, 2) := dk_21 4 (dk_at dksX9_meanSteps_1 6 rfl rfl)
theorem dX9_meanSteps_32 : decode cX9_meanSteps 32 = .ok (.iconst 4, 1) := dk_7 (dk_at dksX9_meanSteps_1 8 rfl rfl)
theorem dX9_meanSteps_33 : decode cX9_meanSteps 33 = .ok (.invokevirtual 120, 3) := dk_182 0 120 (dk_at dksX9_meanSteps_1 9 rfl rfl)
theorem dX9_meanSteps_36 : decode cX9_meanSteps 36 = .ok (.invokevirtual 354, 3) := dk_182 1 98 (dk_at dksX9_meanSteps_1 12 rfl rfl)
theorem dX9_meanSteps_39 : decode cX9_meanSteps 39 = .ok (.istore 5, 2) := dk_54 5 (dk_at dksX9_meanSteps_1 15 rfl rfl)
theorem dX9_meanSteps_41 : decode cX9_meanSteps 41 = .ok (.iload_n 1, 1) := dk_27 (dk_at dksX9_meanSteps_1 17 rfl rfl)
theorem dX9_meanSteps_42 : decode cX9_meanSteps 42 = .ok (.iload 5, 2) := dk_21 5 (dk_at dksX9_meanSteps_1 18 rfl rfl)
theorem dX9_meanSteps_44 : decode cX9_meanSteps 44 = .ok (.iconst (-1), 1) := dk_2 (dk_at dksX9_meanSteps_1 20 rfl rfl)
theorem dX9_meanSteps_45 : decode cX9_meanSteps 45 = .ok (.if_icmp .ne 7, 3) := dk_160 0 7 (dk_at dksX9_meanSteps_1 21 rfl rfl)
theorem dX9_meanSteps_48 : decode cX9_meanSteps 48 = .ok (.iconst 0, 1) := dk_3 (dk_at dksX9_meanSteps_2 0 rfl rfl)
theorem dX9_meanSteps_49 : decode cX9_meanSteps 49 = .ok (.goto 5, 3) := dk_167 0 5 (dk_at dksX9_meanSteps_2 1 rfl rfl)
theorem dX9_meanSteps_52 : decode cX9_meanSteps 52 = .ok (.iload 5, 2) := dk_21 5 (dk_at dksX9_meanSteps_2 4 rfl rfl)
theorem dX9_meanSteps_54 : decode cX9_meanSteps 54 = .ok (.iadd, 1) := dk_96 (dk_at dksX9_meanSteps_2 6 rfl rfl)
theorem dX9_meanSteps_55 : decode cX9_meanSteps 55 = .ok (.istore_n 1, 1) := dk_60 (dk_at dksX9_meanSteps_2 7 rfl rfl)
theorem dX9_meanSteps_56 : decode cX9_meanSteps 56 = .ok (.iload_n 2, 1) := dk_28 (dk_at dksX9_meanSteps_2 8 rfl rfl)
theorem dX9_meanSteps_57 : decode cX9_meanSteps 57 = .ok (.iload 5, 2) := dk_21 5 (dk_at dksX9_meanSteps_2 9 rfl rfl)
theorem dX9_meanSteps_59 : decode cX9_meanSteps 59 = .ok (.iconst (-1), 1) := dk_2 (dk_at dksX9_meanSteps_2 11 rfl rfl)
theorem dX9_meanSteps_60 : decode cX9_meanSteps 60 = .ok (.if_icmp .ne 7, 3) := dk_160 0 7 (dk_at dksX9_meanSteps_2 12 rfl rfl)
theorem dX9_meanSteps_63 : decode cX9_meanSteps 63 = .ok (.iconst 0, 1) := dk_3 (dk_at dksX9_meanSteps_2 15 rfl rfl)
theorem dX9_meanSteps_64 : decode cX9_meanSteps 64 = .ok (.goto 4, 3) := dk_167 0 4 (dk_at dksX9_meanSteps_2 16 rfl rfl)
theorem dX9_meanSteps_67 : decode cX9_meanSteps 67 = .ok (.iconst 1, 1) := dk_4 (dk_at dksX9_meanSteps_2 19 rfl rfl)
theorem dX9_meanSteps_68 : decode cX9_meanSteps 68 = .ok (.iadd, 1) := dk_96 (dk_at dksX9_meanSteps_2 20 rfl rfl)
theorem dX9_meanSteps_69 : decode cX9_meanSteps 69 = .ok (.istore_n 2, 1) := dk_61 (dk_at dksX9_meanSteps_2 21 rfl rfl)
theorem dX9_meanSteps_70 : decode cX9_meanSteps 70 = .ok (.iinc 4 1, 3) := dk_132 4 1 (dk_at dksX9_meanSteps_3 0 rfl rfl)
theorem dX9_meanSteps_73 : decode cX9_meanSteps 73 = .ok (.goto (-51), 3) := dk_167 255 205 (dk_at dksX9_meanSteps_3 3 rfl rfl)
theorem dX9_meanSteps_76 : decode cX9_meanSteps 76 = .ok (.iload_n 2, 1) := dk_28 (dk_at dksX9_meanSteps_3 6 rfl rfl)
theorem dX9_meanSteps_77 : decode cX9_meanSteps 77 = .ok (.ifCond .ne 7, 3) := dk_154 0 7 (dk_at dksX9_meanSteps_3 7 rfl rfl)
theorem dX9_meanSteps_80 : decode cX9_meanSteps 80 = .ok (.dconst 0, 1) := dk_14 (dk_at dksX9_meanSteps_3 10 rfl rfl)
theorem dX9_meanSteps_81 : decode cX9_meanSteps 81 = .ok (.goto 8, 3) := dk_167 0 8 (dk_at dksX9_meanSteps_3 11 rfl rfl)
theorem dX9_meanSteps_84 : decode cX9_meanSteps 84 = .ok (.iload_n 1, 1) := dk_27 (dk_at dksX9_meanSteps_3 14 rfl rfl)
theorem dX9_meanSteps_85 : decode cX9_meanSteps 85 = .ok (.i2d, 1) := dk_135 (dk_at dksX9_meanSteps_3 15 rfl rfl)
theorem dX9_meanSteps_86 : decode cX9_meanSteps 86 = .ok (.iload_n 2, 1) := dk_28 (dk_at dksX9_meanSteps_3 16 rfl rfl)
theorem dX9_meanSteps_87 : decode cX9_meanSteps 87 = .ok (.i2d, 1) := dk_135 (dk_at dksX9_meanSteps_3 17 rfl rfl)
theorem dX9_meanSteps_88 : decode cX9_meanSteps 88 = .ok (.ddiv, 1) := dk_111 (dk_at dksX9_meanSteps_3 18 rfl rfl)
theorem dX9_meanSteps_89 : decode cX9_meanSteps 89 = .ok (.dreturn, 1) := dk_175 (dk_at dksX9_meanSteps_3 19 rfl rfl)
abbrev cX9_writeBoard : ByteArray := prog_15_method_109_code
def yX9_writeBoard : MethodName := ⟨RX9, "writeBoard", "()I"⟩
def dkwX9_writeBoard_4 : List UInt8 := [132, 2, 1, 167, 255, 213, 132, 1, 1, 167, 255, 170, 42, 180, 1, 122, 172]
abbrev dktX9_writeBoard_4 : List UInt8 := dkwX9_writeBoard_4 ++ []
def dkwX9_writeBoard_3 : List UInt8 := [42, 42, 28, 27, 182, 0, 102, 182, 1, 125, 145, 84, 42, 89, 180, 1, 122, 4, 96, 181, 1, 122]
abbrev dktX9_writeBoard_3 : List UInt8 := dkwX9_writeBoard_3 ++ dktX9_writeBoard_4
def dkwX9_writeBoard_2 : List UInt8 := [96, 181, 1, 122, 3, 61, 28, 42, 180, 0, 9, 3, 46, 162, 0, 39, 42, 180, 0, 46, 42, 180, 1, 122]
abbrev dktX9_writeBoard_2 : List UInt8 := dkwX9_writeBoard_2 ++ dktX9_writeBoard_3
def dkwX9_writeBoard_1 : List UInt8 := [162, 0, 82, 27, 158, 0, 24, 42, 180, 0, 46, 42, 180, 1, 122, 16, 47, 84, 42, 89, 180, 1, 122, 4]
abbrev dktX9_writeBoard_1 : List UInt8 := dkwX9_writeBoard_1 ++ dktX9_writeBoard_2
def dkwX9_writeBoard_0 : List UInt8 := [42, 3, 181, 0, 83, 42, 182, 0, 149, 42, 3, 181, 1, 122, 3, 60, 27, 42, 180, 0, 9, 4, 46]
abbrev dktX9_writeBoard_0 : List UInt8 := dkwX9_writeBoard_0 ++ dktX9_writeBoard_1
theorem dksX9_writeBoard_0 : cX9_writeBoard.data.toList.drop 0 = dktX9_writeBoard_0 := by decide +kernel
theorem dksX9_writeBoard_1 : cX9_writeBoard.data.toList.drop 23 = dktX9_writeBoard_1 := dk_seg dksX9_writeBoard_0 23 rfl rfl
theorem dksX9_writeBoard_2 : cX9_writeBoard.data.toList.drop 47 = dktX9_writeBoard_2 := dk_seg dksX9_writeBoard_1 24 rfl rfl
theorem dksX9_writeBoard_3 : cX9_writeBoard.data.toList.drop 71 = dktX9_writeBoard_3 := dk_seg dksX9_writeBoard_2 24 rfl rfl
theorem dksX9_writeBoard_4 : cX9_writeBoard.data.toList.drop 93 = dktX9_writeBoard_4 := dk_seg dksX9_writeBoard_3 22 rfl rfl
theorem dX9_writeBoard_0 : decode cX9_writeBoard 0 = .ok (.aload_n 0, 1) := dk_42 (dk_at dksX9_writeBoard_0 0 rfl rfl)
theorem dX9_writeBoard_1 : decode cX9_writeBoard 1 = .ok (.iconst 0, 1) := dk_3 (dk_at dksX9_writeBoard_0 1 rfl rfl)
theorem dX9_writeBoard_2 : decode cX9_writeBoard 2 = .ok (.putfield 83, 3) := dk_181 0 83 (dk_at dksX9_writeBoard_0 2 rfl rfl)
theorem dX9_writeBoard_5 : decode cX9_writeBoard 5 = .ok (.aload_n 0, 1) := dk_42 (dk_at dksX9_writeBoard_0 5 rfl rfl)
theorem dX9_writeBoard_6 : decode cX9_writeBoard 6 = .ok (.invokevirtual 149, 3) := dk_182 0 149 (dk_at dksX9_writeBoard_0 6 rfl rfl)
theorem dX9_writeBoard_9 : decode cX9_writeBoard 9 = .ok (.aload_n 0, 1) := dk_42 (dk_at dksX9_writeBoard_0 9 rfl rfl)
theorem dX9_writeBoard_10 : decode cX9_writeBoard 10 = .ok (.iconst 0, 1) := dk_3 (dk_at dksX9_writeBoard_0 10 rfl rfl)
theorem dX9_writeBoard_11 : decode cX9_writeBoard 11 = .ok (.putfield 378, 3) := dk_181 1 122 (dk_at dksX9_writeBoard_0 11 rfl rfl)
theorem dX9_writeBoard_14 : decode cX9_writeBoard 14 = .ok (.iconst 0, 1) := dk_3 (dk_at dksX9_writeBoard_0 14 rfl rfl)
theorem dX9_writeBoard_15 : decode cX9_writeBoard 15 = .ok (.istore_n 1, 1) := dk_60 (dk_at dksX9_writeBoard_0 15 rfl rfl)
theorem dX9_writeBoard_16 : decode cX9_writeBoard 16 = .ok (.iload_n 1, 1) := dk_27 (dk_at dksX9_writeBoard_0 16 rfl rfl)
theorem dX9_writeBoard_17 : decode cX9_writeBoard 17 = .ok (.aload_n 0, 1) := dk_42 (dk_at dksX9_writeBoard_0 17 rfl rfl)
theorem dX9_writeBoard_18 : decode cX9_writeBoard 18 = .ok (.getfield 9, 3) := dk_180 0 9 (dk_at dksX9_writeBoard_0 18 rfl rfl)
theorem dX9_writeBoard_21 : decode cX9_writeBoard 21 = .ok (.iconst 1, 1) := dk_4 (dk_at dksX9_writeBoard_0 21 rfl rfl)
theorem dX9_writeBoard_22 : decode cX9_writeBoard 22 = .ok (.iaload, 1) := dk_46 (dk_at dksX9_writeBoard_0 22 rfl rfl)
theorem dX9_writeBoard_23 : decode cX9_writeBoard 23 = .ok (.if_icmp .ge 82, 3) := dk_162 0 82 (dk_at dksX9_writeBoard_1 0 rfl rfl)
theorem dX9_writeBoard_26 : decode cX9_writeBoard 26 = .ok (.iload_n 1, 1) := dk_27 (dk_at dksX9_writeBoard_1 3 rfl rfl)
theorem dX9_writeBoard_27 : decode cX9_writeBoard 27 = .ok (.ifCond .le 24, 3) := dk_158 0 24 (dk_at dksX9_writeBoard_1 4 rfl rfl)
theorem dX9_writeBoard_30 : decode cX9_writeBoard 30 = .ok (.aload_n 0, 1) := dk_42 (dk_at dksX9_writeBoard_1 7 rfl rfl)
theorem dX9_writeBoard_31 : decode cX9_writeBoard 31 = .ok (.getfield 46, 3) := dk_180 0 46 (dk_at dksX9_writeBoard_1 8 rfl rfl)
theorem dX9_writeBoard_34 : decode cX9_writeBoard 34 = .ok (.aload_n 0, 1) := dk_42 (dk_at dksX9_writeBoard_1 11 rfl rfl)
theorem dX9_writeBoard_35 : decode cX9_writeBoard 35 = .ok (.getfield 378, 3) := dk_180 1 122 (dk_at dksX9_writeBoard_1 12 rfl rfl)
theorem dX9_writeBoard_38 : decode cX9_writeBoard 38 = .ok (.bipush 47, 2) := dk_16 47 (dk_at dksX9_writeBoard_1 15 rfl rfl)
theorem dX9_writeBoard_40 : decode cX9_writeBoard 40 = .ok (.bastore, 1) := dk_84 (dk_at dksX9_writeBoard_1 17 rfl rfl)
theorem dX9_writeBoard_41 : decode cX9_writeBoard 41 = .ok (.aload_n 0, 1) := dk_42 (dk_at dksX9_writeBoard_1 18 rfl rfl)
theorem dX9_writeBoard_42 : decode cX9_writeBoard 42 = .ok (.dup, 1) := dk_89 (dk_at dksX9_writeBoard_1 19 rfl rfl)
theorem dX9_writeBoard_43 : decode cX9_writeBoard 43 = .ok (.getfield 378, 3) := dk_180 1 122 (dk_at dksX9_writeBoard_1 20 rfl rfl)
theorem dX9_writeBoard_46 : decode cX9_writeBoard 46 = .ok (.iconst 1, 1) := dk_4 (dk_at dksX9_writeBoard_1 23 rfl rfl)
theorem dX9_writeBoard_47 : decode cX9_writeBoard 47 = .ok (.iadd, 1) := dk_96 (dk_at dksX9_writeBoard_2 0 rfl rfl)
theorem dX9_writeBoard_48 : decode cX9_writeBoard 48 = .ok (.putfield 378, 3) := dk_181 1 122 (dk_at dksX9_writeBoard_2 1 rfl rfl)
theorem dX9_writeBoard_51 : decode cX9_writeBoard 51 = .ok (.iconst 0, 1) := dk_3 (dk_at dksX9_writeBoard_2 4 rfl rfl)
theorem dX9_writeBoard_52 : decode cX9_writeBoard 52 = .ok (.istore_n 2, 1) := dk_61 (dk_at dksX9_writeBoard_2 5 rfl rfl)
theorem dX9_writeBoard_53 : decode cX9_writeBoard 53 = .ok (.iload_n 2, 1) := dk_28 (dk_at dksX9_writeBoard_2 6 rfl rfl)
theorem dX9_writeBoard_54 : decode cX9_writeBoard 54 = .ok (.aload_n 0, 1) := dk_42 (dk_at dksX9_writeBoard_2 7 rfl rfl)
theorem dX9_writeBoard_55 : decode cX9_writeBoard 55 = .ok (.getfield 9, 3) := dk_180 0 9 (dk_at dksX9_writeBoard_2 8 rfl rfl)
theorem dX9_writeBoard_58 : decode cX9_writeBoard 58 = .ok (.iconst 0, 1) := dk_3 (dk_at dksX9_writeBoard_2 11 rfl rfl)
theorem dX9_writeBoard_59 : decode cX9_writeBoard 59 = .ok (.iaload, 1) := dk_46 (dk_at dksX9_writeBoard_2 12 rfl rfl)
theorem dX9_writeBoard_60 : decode cX9_writeBoard 60 = .ok (.if_icmp .ge 39, 3) := dk_162 0 39 (dk_at dksX9_writeBoard_2 13 rfl rfl)
theorem dX9_writeBoard_63 : decode cX9_writeBoard 63 = .ok (.aload_n 0, 1) := dk_42 (dk_at dksX9_writeBoard_2 16 rfl rfl)
theorem dX9_writeBoard_64 : decode cX9_writeBoard 64 = .ok (.getfield 46, 3) := dk_180 0 46 (dk_at dksX9_writeBoard_2 17 rfl rfl)
theorem dX9_writeBoard_67 : decode cX9_writeBoard 67 = .ok (.aload_n 0, 1) := dk_42 (dk_at dksX9_writeBoard_2 20 rfl rfl)
theorem dX9_writeBoard_68 : decode cX9_writeBoard 68 = .ok (.getfield 378, 3) := dk_180 1 122 (dk_at dksX9_writeBoard_2 21 rfl rfl)
theorem dX9_writeBoard_71 : decode cX9_writeBoard 71 = .ok (.aload_n 0, 1) := dk_42 (dk_at dksX9_writeBoard_3 0 rfl rfl)
theorem dX9_writeBoard_72 : decode cX9_writeBoard 72 = .ok (.aload_n 0, 1) := dk_42 (dk_at dksX9_writeBoard_3 1 rfl rfl)
theorem dX9_writeBoard_73 : decode cX9_writeBoard 73 = .ok (.iload_n 2, 1) := dk_28 (dk_at dksX9_writeBoard_3 2 rfl rfl)
theorem dX9_writeBoard_74 : decode cX9_writeBoard 74 = .ok (.iload_n 1, 1) := dk_27 (dk_at dksX9_writeBoard_3 3 rfl rfl)
theorem dX9_writeBoard_75 : decode cX9_writeBoard 75 = .ok (.invokevirtual 102, 3) := dk_182 0 102 (dk_at dksX9_writeBoard_3 4 rfl rfl)
theorem dX9_writeBoard_78 : decode cX9_writeBoard 78 = .ok (.invokevirtual 381, 3) := dk_182 1 125 (dk_at dksX9_writeBoard_3 7 rfl rfl)
theorem dX9_writeBoard_81 : decode cX9_writeBoard 81 = .ok (.i2b, 1) := dk_145 (dk_at dksX9_writeBoard_3 10 rfl rfl)
theorem dX9_writeBoard_82 : decode cX9_writeBoard 82 = .ok (.bastore, 1) := dk_84 (dk_at dksX9_writeBoard_3 11 rfl rfl)
theorem dX9_writeBoard_83 : decode cX9_writeBoard 83 = .ok (.aload_n 0, 1) := dk_42 (dk_at dksX9_writeBoard_3 12 rfl rfl)
theorem dX9_writeBoard_84 : decode cX9_writeBoard 84 = .ok (.dup, 1) := dk_89 (dk_at dksX9_writeBoard_3 13 rfl rfl)
theorem dX9_writeBoard_85 : decode cX9_writeBoard 85 = .ok (.getfield 378, 3) := dk_180 1 122 (dk_at dksX9_writeBoard_3 14 rfl rfl)
theorem dX9_writeBoard_88 : decode cX9_writeBoard 88 = .ok (.iconst 1, 1) := dk_4 (dk_at dksX9_writeBoard_3 17 rfl rfl)
theorem dX9_writeBoard_89 : decode cX9_writeBoard 89 = .ok (.iadd, 1) := dk_96 (dk_at dksX9_writeBoard_3 18 rfl rfl)
theorem dX9_writeBoard_90 : decode cX9_writeBoard 90 = .ok (.putfield 378, 3) := dk_181 1 122 (dk_at dksX9_writeBoard_3 19 rfl rfl)
theorem dX9_writeBoard_93 : decode cX9_writeBoard 93 = .ok (.iinc 2 1, 3) := dk_132 2 1 (dk_at dksX9_writeBoard_4 0 rfl rfl)
theorem dX9_writeBoard_96 : decode cX9_writeBoard 96 = .ok (.goto (-43), 3) := dk_167 255 213 (dk_at dksX9_writeBoard_4 3 rfl rfl)
theorem dX9_writeBoard_99 : decode cX9_writeBoard 99 = .ok (.iinc 1 1, 3) := dk_132 1 1 (dk_at dksX9_writeBoard_4 6 rfl rfl)
theorem dX9_writeBoard_102 : decode cX9_writeBoard 102 = .ok (.goto (-86), 3) := dk_167 255 170 (dk_at dksX9_writeBoard_4 9 rfl rfl)
theorem dX9_writeBoard_105 : decode cX9_writeBoard 105 = .ok (.aload_n 0, 1) := dk_42 (dk_at dksX9_writeBoard_4 12 rfl rfl)
theorem dX9_writeBoard_106 : decode cX9_writeBoard 106 = .ok (.getfield 378, 3) := dk_180 1 122 (dk_at dksX9_writeBoard_4 13 rfl rfl)
theorem dX9_writeBoard_109 : decode cX9_writeBoard 109 = .ok (.ireturn, 1) := dk_172 (dk_at dksX9_writeBoard_4 16 rfl rfl)
abbrev cX9_byteOf : ByteArray := prog_15_method_108_code
def yX9_byteOf : MethodName := ⟨RX9, "byteOf", "(I)I"⟩
def dkwX9_byteOf_5 : List UInt8 := [16, 42, 172]
abbrev dktX9_byteOf_5 : List UInt8 := dkwX9_byteOf_5 ++ []
def dkwX9_byteOf_4 : List UInt8 := [182, 0, 106, 2, 160, 0, 8, 16, 68, 167, 0, 5, 16, 79, 172, 28, 184, 1, 119, 172, 16, 111, 172]
abbrev dktX9_byteOf_4 : List UInt8 := dkwX9_byteOf_4 ++ dktX9_byteOf_5
def dkwX9_byteOf_3 : List UInt8 := [16, 40, 167, 0, 5, 16, 41, 172, 28, 154, 0, 8, 16, 91, 167, 0, 5, 16, 93, 172, 42, 27, 8]
abbrev dktX9_byteOf_3 : List UInt8 := dkwX9_byteOf_3 ++ dktX9_byteOf_4
def dkwX9_byteOf_2 : List UInt8 := [42, 27, 182, 0, 164, 153, 0, 8, 16, 43, 167, 0, 5, 16, 46, 172, 16, 35, 172, 28, 154, 0, 8]
abbrev dktX9_byteOf_2 : List UInt8 := dkwX9_byteOf_2 ++ dktX9_byteOf_3
def dkwX9_byteOf_1 : List UInt8 := [170, 0, 0, 0, 0, 0, 112, 0, 0, 0, 0, 0, 0, 0, 6, 0, 0, 0, 43, 0, 0, 0, 59, 0, 0, 0, 62, 0, 0, 0, 74, 0, 0, 0, 86, 0, 0, 0, 104, 0, 0, 0, 109]
abbrev dktX9_byteOf_1 : List UInt8 := dkwX9_byteOf_1 ++ dktX9_byteOf_2
def dkwX9_byteOf_0 : List UInt8 := [42, 27, 4, 182, 0, 106, 61, 42, 27, 3, 182, 0, 106]
abbrev dktX9_byteOf_0 : List UInt8 := dkwX9_byteOf_0 ++ dktX9_byteOf_1
theorem dksX9_byteOf_0 : cX9_byteOf.data.toList.drop 0 = dktX9_byteOf_0 := by decide +kernel
theorem dksX9_byteOf_1 : cX9_byteOf.data.toList.drop 13 = dktX9_byteOf_1 := dk_seg dksX9_byteOf_0 13 rfl rfl
theorem dksX9_byteOf_2 : cX9_byteOf.data.toList.drop 56 = dktX9_byteOf_2 := dk_seg dksX9_byteOf_1 43 rfl rfl
theorem dksX9_byteOf_3 : cX9_byteOf.data.toList.drop 79 = dktX9_byteOf_3 := dk_seg dksX9_byteOf_2 23 rfl rfl
theorem dksX9_byteOf_4 : cX9_byteOf.data.toList.drop 102 = dktX9_byteOf_4 := dk_seg dksX9_byteOf_3 23 rfl rfl
theorem dksX9_byteOf_5 : cX9_byteOf.data.toList.drop 125 = dktX9_byteOf_5 := dk_seg dksX9_byteOf_4 23 rfl rfl
theorem dX9_byteOf_0 : decode cX9_byteOf 0 = .ok (.aload_n 0, 1) := dk_42 (dk_at dksX9_byteOf_0 0 rfl rfl)
theorem dX9_byteOf_1 : decode cX9_byteOf 1 = .ok (.iload_n 1, 1) := dk_27 (dk_at dksX9_byteOf_0 1 rfl rfl)
theorem dX9_byteOf_2 : decode cX9_byteOf 2 = .ok (.iconst 1, 1) := dk_4 (dk_at dksX9_byteOf_0 2 rfl rfl)
theorem dX9_byteOf_3 : decode cX9_byteOf 3 = .ok (.invokevirtual 106, 3) := dk_182 0 106 (dk_at dksX9_byteOf_0 3 rfl rfl)
theorem dX9_byteOf_6 : decode cX9_byteOf 6 = .ok (.istore_n 2, 1) := dk_61 (dk_at dksX9_byteOf_0 6 rfl rfl)
theorem dX9_byteOf_7 : decode cX9_byteOf 7 = .ok (.aload_n 0, 1) := dk_42 (dk_at dksX9_byteOf_0 7 rfl rfl)
theorem dX9_byteOf_8 : decode cX9_byteOf 8 = .ok (.iload_n 1, 1) := dk_27 (dk_at dksX9_byteOf_0 8 rfl rfl)
theorem dX9_byteOf_9 : decode cX9_byteOf 9 = .ok (.iconst 0, 1) := dk_3 (dk_at dksX9_byteOf_0 9 rfl rfl)
theorem dX9_byteOf_10 : decode cX9_byteOf 10 = .ok (.invokevirtual 106, 3) := dk_182 0 106 (dk_at dksX9_byteOf_0 10 rfl rfl)
theorem dX9_byteOf_13 : decode cX9_byteOf 13 = .ok (.tableswitch 112 0 6 #[43, 59, 62, 74, 86, 104, 109], 43) := by decide +kernel
theorem dX9_byteOf_56 : decode cX9_byteOf 56 = .ok (.aload_n 0, 1) := dk_42 (dk_at dksX9_byteOf_2 0 rfl rfl)
theorem dX9_byteOf_57 : decode cX9_byteOf 57 = .ok (.iload_n 1, 1) := dk_27 (dk_at dksX9_byteOf_2 1 rfl rfl)
theorem dX9_byteOf_58 : decode cX9_byteOf 58 = .ok (.invokevirtual 164, 3) := dk_182 0 164 (dk_at dksX9_byteOf_2 2 rfl rfl)
theorem dX9_byteOf_61 : decode cX9_byteOf 61 = .ok (.ifCond .eq 8, 3) := dk_153 0 8 (dk_at dksX9_byteOf_2 5 rfl rfl)
theorem dX9_byteOf_64 : decode cX9_byteOf 64 = .ok (.bipush 43, 2) := dk_16 43 (dk_at dksX9_byteOf_2 8 rfl rfl)
theorem dX9_byteOf_66 : decode cX9_byteOf 66 = .ok (.goto 5, 3) := dk_167 0 5 (dk_at dksX9_byteOf_2 10 rfl rfl)
theorem dX9_byteOf_69 : decode cX9_byteOf 69 = .ok (.bipush 46, 2) := dk_16 46 (dk_at dksX9_byteOf_2 13 rfl rfl)
theorem dX9_byteOf_71 : decode cX9_byteOf 71 = .ok (.ireturn, 1) := dk_172 (dk_at dksX9_byteOf_2 15 rfl rfl)
theorem dX9_byteOf_72 : decode cX9_byteOf 72 = .ok (.bipush 35, 2) := dk_16 35 (dk_at dksX9_byteOf_2 16 rfl rfl)
theorem dX9_byteOf_74 : decode cX9_byteOf 74 = .ok (.ireturn, 1) := dk_172 (dk_at dksX9_byteOf_2 18 rfl rfl)
theorem dX9_byteOf_75 : decode cX9_byteOf 75 = .ok (.iload_n 2, 1) := dk_28 (dk_at dksX9_byteOf_2 19 rfl rfl)
theorem dX9_byteOf_76 : decode cX9_byteOf 76 = .ok (.ifCond .ne 8, 3) := dk_154 0 8 (dk_at dksX9_byteOf_2 20 rfl rfl)
theorem dX9_byteOf_79 : decode cX9_byteOf 79 = .ok (.bipush 40, 2) := dk_16 40 (dk_at dksX9_byteOf_3 0 rfl rfl)
theorem dX9_byteOf_81 : decode cX9_byteOf 81 = .ok (.goto 5, 3) := dk_167 0 5 (dk_at dksX9_byteOf_3 2 rfl rfl)
theorem dX9_byteOf_84 : decode cX9_byteOf 84 = .ok (.bipush 41, 2) := dk_16 41 (dk_at dksX9_byteOf_3 5 rfl rfl)
theorem dX9_byteOf_86 : decode cX9_byteOf 86 = .ok (.ireturn, 1) := dk_172 (dk_at dksX9_byteOf_3 7 rfl rfl)
theorem dX9_byteOf_87 : decode cX9_byteOf 87 = .ok (.iload_n 2, 1) := dk_28 (dk_at dksX9_byteOf_3 8 rfl rfl)
theorem dX9_byteOf_88 : decode cX9_byteOf 88 = .ok (.ifCond .ne 8, 3) := dk_154 0 8 (dk_at dksX9_byteOf_3 9 rfl rfl)
theorem dX9_byteOf_91 : decode cX9_byteOf 91 = .ok (.bipush 91, 2) := dk_16 91 (dk_at dksX9_byteOf_3 12 rfl rfl)
theorem dX9_byteOf_93 : decode cX9_byteOf 93 = .ok (.goto 5, 3) := dk_167 0 5 (dk_at dksX9_byteOf_3 14 rfl rfl)
theorem dX9_byteOf_96 : decode cX9_byteOf 96 = .ok (.bipush 93, 2) := dk_16 93 (dk_at dksX9_byteOf_3 17 rfl rfl)
theorem dX9_byteOf_98 : decode cX9_byteOf 98 = .ok (.ireturn, 1) := dk_172 (dk_at dksX9_byteOf_3 19 rfl rfl)
theorem dX9_byteOf_99 : decode cX9_byteOf 99 = .ok (.aload_n 0, 1) := dk_42 (dk_at dksX9_byteOf_3 20 rfl rfl)
theorem dX9_byteOf_100 : decode cX9_byteOf 100 = .ok (.iload_n 1, 1) := dk_27 (dk_at dksX9_byteOf_3 21 rfl rfl)
theorem dX9_byteOf_101 : decode cX9_byteOf 101 = .ok (.iconst 5, 1) := dk_8 (dk_at dksX9_byteOf_3 22 rfl rfl)
theorem dX9_byteOf_102 : decode cX9_byteOf 102 = .ok (.invokevirtual 106, 3) := dk_182 0 106 (dk_at dksX9_byteOf_4 0 rfl rfl)
theorem dX9_byteOf_105 : decode cX9_byteOf 105 = .ok (.iconst (-1), 1) := dk_2 (dk_at dksX9_byteOf_4 3 rfl rfl)
theorem dX9_byteOf_106 : decode cX9_byteOf 106 = .ok (.if_icmp .ne 8, 3) := dk_160 0 8 (dk_at dksX9_byteOf_4 4 rfl rfl)
theorem dX9_byteOf_109 : decode cX9_byteOf 109 = .ok (.bipush 68, 2) := dk_16 68 (dk_at dksX9_byteOf_4 7 rfl rfl)
theorem dX9_byteOf_111 : decode cX9_byteOf 111 = .ok (.goto 5, 3) := dk_167 0 5 (dk_at dksX9_byteOf_4 9 rfl rfl)
theorem dX9_byteOf_114 : decode cX9_byteOf 114 = .ok (.bipush 79, 2) := dk_16 79 (dk_at dksX9_byteOf_4 12 rfl rfl)
theorem dX9_byteOf_116 : decode cX9_byteOf 116 = .ok (.ireturn, 1) := dk_172 (dk_at dksX9_byteOf_4 14 rfl rfl)
theorem dX9_byteOf_117 : decode cX9_byteOf 117 = .ok (.iload_n 2, 1) := dk_28 (dk_at dksX9_byteOf_4 15 rfl rfl)
theorem dX9_byteOf_118 : decode cX9_byteOf 118 = .ok (.invokestatic 375, 3) := dk_184 1 119 (dk_at dksX9_byteOf_4 16 rfl rfl)
theorem dX9_byteOf_121 : decode cX9_byteOf 121 = .ok (.ireturn, 1) := dk_172 (dk_at dksX9_byteOf_4 19 rfl rfl)
theorem dX9_byteOf_122 : decode cX9_byteOf 122 = .ok (.bipush 111, 2) := dk_16 111 (dk_at dksX9_byteOf_4 20 rfl rfl)
theorem dX9_byteOf_124 : decode cX9_byteOf 124 = .ok (.ireturn, 1) := dk_172 (dk_at dksX9_byteOf_4 22 rfl rfl)
theorem dX9_byteOf_125 : decode cX9_byteOf 125 = .ok (.bipush 42, 2) := dk_16 42 (dk_at dksX9_byteOf_5 0 rfl rfl)
theorem dX9_byteOf_127 : decode cX9_byteOf 127 = .ok (.ireturn, 1) := dk_172 (dk_at dksX9_byteOf_5 2 rfl rfl)
abbrev cX9_direction : ByteArray := prog_15_method_107_code
def yX9_direction : MethodName := ⟨RX9, "direction", "(I)I"⟩
def dkwX9_direction_1 : List UInt8 := [16, 100, 167, 0, 5, 16, 108, 172]
abbrev dktX9_direction_1 : List UInt8 := dkwX9_direction_1 ++ []
def dkwX9_direction_0 : List UInt8 := [26, 154, 0, 8, 16, 117, 167, 0, 25, 26, 4, 160, 0, 8, 16, 114, 167, 0, 15, 26, 5, 160, 0, 8]
abbrev dktX9_direction_0 : List UInt8 := dkwX9_direction_0 ++ dktX9_direction_1
theorem dksX9_direction_0 : cX9_direction.data.toList.drop 0 = dktX9_direction_0 := by decide +kernel
theorem dksX9_direction_1 : cX9_direction.data.toList.drop 24 = dktX9_direction_1 := dk_seg dksX9_direction_0 24 rfl rfl
theorem dX9_direction_0 : decode cX9_direction 0 = .ok (.iload_n 0, 1) := dk_26 (dk_at dksX9_direction_0 0 rfl rfl)
theorem dX9_direction_1 : decode cX9_direction 1 = .ok (.ifCond .ne 8, 3) := dk_154 0 8 (dk_at dksX9_direction_0 1 rfl rfl)
theorem dX9_direction_4 : decode cX9_direction 4 = .ok (.bipush 117, 2) := dk_16 117 (dk_at dksX9_direction_0 4 rfl rfl)
theorem dX9_direction_6 : decode cX9_direction 6 = .ok (.goto 25, 3) := dk_167 0 25 (dk_at dksX9_direction_0 6 rfl rfl)
theorem dX9_direction_9 : decode cX9_direction 9 = .ok (.iload_n 0, 1) := dk_26 (dk_at dksX9_direction_0 9 rfl rfl)
theorem dX9_direction_10 : decode cX9_direction 10 = .ok (.iconst 1, 1) := dk_4 (dk_at dksX9_direction_0 10 rfl rfl)
theorem dX9_direction_11 : decode cX9_direction 11 = .ok (.if_icmp .ne 8, 3) := dk_160 0 8 (dk_at dksX9_direction_0 11 rfl rfl)
theorem dX9_direction_14 : decode cX9_direction 14 = .ok (.bipush 114, 2) := dk_16 114 (dk_at dksX9_direction_0 14 rfl rfl)
theorem dX9_direction_16 : decode cX9_direction 16 = .ok (.goto 15, 3) := dk_167 0 15 (dk_at dksX9_direction_0 16 rfl rfl)
theorem dX9_direction_19 : decode cX9_direction 19 = .ok (.iload_n 0, 1) := dk_26 (dk_at dksX9_direction_0 19 rfl rfl)
theorem dX9_direction_20 : decode cX9_direction 20 = .ok (.iconst 2, 1) := dk_5 (dk_at dksX9_direction_0 20 rfl rfl)
theorem dX9_direction_21 : decode cX9_direction 21 = .ok (.if_icmp .ne 8, 3) := dk_160 0 8 (dk_at dksX9_direction_0 21 rfl rfl)
theorem dX9_direction_24 : decode cX9_direction 24 = .ok (.bipush 100, 2) := dk_16 100 (dk_at dksX9_direction_1 0 rfl rfl)
theorem dX9_direction_26 : decode cX9_direction 26 = .ok (.goto 5, 3) := dk_167 0 5 (dk_at dksX9_direction_1 2 rfl rfl)
theorem dX9_direction_29 : decode cX9_direction 29 = .ok (.bipush 108, 2) := dk_16 108 (dk_at dksX9_direction_1 5 rfl rfl)
theorem dX9_direction_31 : decode cX9_direction 31 = .ok (.ireturn, 1) := dk_172 (dk_at dksX9_direction_1 7 rfl rfl)
abbrev cX9_reportByte : ByteArray := prog_15_method_110_code
def yX9_reportByte : MethodName := ⟨RX9, "reportByte", "(I)I"⟩
def dkwX9_reportByte_1 : List UInt8 := [180, 0, 46, 27, 51, 172]
abbrev dktX9_reportByte_1 : List UInt8 := dkwX9_reportByte_1 ++ []
def dkwX9_reportByte_0 : List UInt8 := [42, 3, 181, 0, 83, 27, 155, 0, 11, 27, 42, 180, 1, 122, 161, 0, 7, 2, 167, 0, 9, 42]
abbrev dktX9_reportByte_0 : List UInt8 := dkwX9_reportByte_0 ++ dktX9_reportByte_1
theorem dksX9_reportByte_0 : cX9_reportByte.data.toList.drop 0 = dktX9_reportByte_0 := by decide +kernel
theorem dksX9_reportByte_1 : cX9_reportByte.data.toList.drop 22 = dktX9_reportByte_1 := dk_seg dksX9_reportByte_0 22 rfl rfl
theorem dX9_reportByte_0 : decode cX9_reportByte 0 = .ok (.aload_n 0, 1) := dk_42 (dk_at dksX9_reportByte_0 0 rfl rfl)
theorem dX9_reportByte_1 : decode cX9_reportByte 1 = .ok (.iconst 0, 1) := dk_3 (dk_at dksX9_reportByte_0 1 rfl rfl)
theorem dX9_reportByte_2 : decode cX9_reportByte 2 = .ok (.putfield 83, 3) := dk_181 0 83 (dk_at dksX9_reportByte_0 2 rfl rfl)
theorem dX9_reportByte_5 : decode cX9_reportByte 5 = .ok (.iload_n 1, 1) := dk_27 (dk_at dksX9_reportByte_0 5 rfl rfl)
theorem dX9_reportByte_6 : decode cX9_reportByte 6 = .ok (.ifCond .lt 11, 3) := dk_155 0 11 (dk_at dksX9_reportByte_0 6 rfl rfl)
theorem dX9_reportByte_9 : decode cX9_reportByte 9 = .ok (.iload_n 1, 1) := dk_27 (dk_at dksX9_reportByte_0 9 rfl rfl)
theorem dX9_reportByte_10 : decode cX9_reportByte 10 = .ok (.aload_n 0, 1) := dk_42 (dk_at dksX9_reportByte_0 10 rfl rfl)
theorem dX9_reportByte_11 : decode cX9_reportByte 11 = .ok (.getfield 378, 3) := dk_180 1 122 (dk_at dksX9_reportByte_0 11 rfl rfl)
theorem dX9_reportByte_14 : decode cX9_reportByte 14 = .ok (.if_icmp .lt 7, 3) := dk_161 0 7 (dk_at dksX9_reportByte_0 14 rfl rfl)
theorem dX9_reportByte_17 : decode cX9_reportByte 17 = .ok (.iconst (-1), 1) := dk_2 (dk_at dksX9_reportByte_0 17 rfl rfl)
theorem dX9_reportByte_18 : decode cX9_reportByte 18 = .ok (.goto 9, 3) := dk_167 0 9 (dk_at dksX9_reportByte_0 18 rfl rfl)
theorem dX9_reportByte_21 : decode cX9_reportByte 21 = .ok (.aload_n 0, 1) := dk_42 (dk_at dksX9_reportByte_0 21 rfl rfl)
theorem dX9_reportByte_22 : decode cX9_reportByte 22 = .ok (.getfield 46, 3) := dk_180 0 46 (dk_at dksX9_reportByte_1 0 rfl rfl)
theorem dX9_reportByte_25 : decode cX9_reportByte 25 = .ok (.iload_n 1, 1) := dk_27 (dk_at dksX9_reportByte_1 3 rfl rfl)
theorem dX9_reportByte_26 : decode cX9_reportByte 26 = .ok (.baload, 1) := dk_51 (dk_at dksX9_reportByte_1 4 rfl rfl)
theorem dX9_reportByte_27 : decode cX9_reportByte 27 = .ok (.ireturn, 1) := dk_172 (dk_at dksX9_reportByte_1 5 rfl rfl)
theorem q121 : (Jvm.Cond.initialized "MirrorDoorsModel") ∈ lw_all := lw_g (lw_at lw_m1 11 rfl) rfl
theorem q1215 : (Jvm.Cond.selects "MirrorDoorsModel" ({ cls := "java/lang/Object", name := "getClass", desc := "()Ljava/lang/Class;" } : Jvm.MethodName) ({ cls := "java/lang/Object", name := "getClass", desc := "()Ljava/lang/Class;" } : Jvm.MethodName)) ∈ lw_all := lw_g (lw_at lw_m5 145 rfl) rfl
theorem q1534 : (Jvm.Cond.selects "MirrorDoorsModel" ({ cls := "java/lang/Object", name := "equals", desc := "(Ljava/lang/Object;)Z" } : Jvm.MethodName) ({ cls := "java/lang/Object", name := "equals", desc := "(Ljava/lang/Object;)Z" } : Jvm.MethodName)) ∈ lw_all := lw_g (lw_at lw_m6 224 rfl) rfl
theorem q1810 : (Jvm.Cond.instantiable "MirrorDoorsModel" (31 : Nat)) ∈ lw_all := lw_g (lw_at lw_m8 20 rfl) rfl
theorem q1812 : (Jvm.Cond.instanceMethod ({ cls := "MirrorDoorsModel", name := "<init>", desc := "()V" } : Jvm.MethodName)) ∈ lw_all := lw_g (lw_at lw_m8 22 rfl) rfl
theorem q1813 : (Jvm.Cond.code ({ cls := "MirrorDoorsModel", name := "<init>", desc := "()V" } : Jvm.MethodName) prog_15_method_1_code (1 : Nat) (Option.none : Option Jvm.ClassFile.FieldType)) ∈ lw_all := lw_g (lw_at lw_m8 23 rfl) rfl
theorem q1814 : (Jvm.Cond.methodLink "MirrorDoorsModel" (3 : Nat) ({ cls := "java/lang/Object", name := "<init>", desc := "()V" } : Jvm.MethodName)) ∈ lw_all := lw_g (lw_at lw_m8 24 rfl) rfl
theorem q1815 : (Jvm.Cond.classLink "MirrorDoorsModel" (13 : Nat) "[[I") ∈ lw_all := lw_g (lw_at lw_m8 25 rfl) rfl
theorem q1817 : (Jvm.Cond.methodLink "MirrorDoorsModel" (71 : Nat) ({ cls := "MirrorDoorsModel", name := "begin", desc := "(II)V" } : Jvm.MethodName)) ∈ lw_all := lw_g (lw_at lw_m8 27 rfl) rfl
theorem q1818 : (Jvm.Cond.privateMethod ({ cls := "MirrorDoorsModel", name := "begin", desc := "(II)V" } : Jvm.MethodName)) ∈ lw_tbl := lw_at lw_m8 28 rfl
theorem q1819 : (Jvm.Cond.instanceMethod ({ cls := "MirrorDoorsModel", name := "begin", desc := "(II)V" } : Jvm.MethodName)) ∈ lw_all := lw_g (lw_at lw_m8 29 rfl) rfl
theorem q1820 : (Jvm.Cond.code ({ cls := "MirrorDoorsModel", name := "begin", desc := "(II)V" } : Jvm.MethodName) prog_15_method_4_code (4 : Nat) (Option.none : Option Jvm.ClassFile.FieldType)) ∈ lw_all := lw_g (lw_at lw_m8 30 rfl) rfl
theorem q1821 : (Jvm.Cond.methodLink "MirrorDoorsModel" (87 : Nat) ({ cls := "MirrorDoorsModel", name := "empty", desc := "(I)V" } : Jvm.MethodName)) ∈ lw_all := lw_g (lw_at lw_m8 31 rfl) rfl
theorem q1822 : (Jvm.Cond.privateMethod ({ cls := "MirrorDoorsModel", name := "empty", desc := "(I)V" } : Jvm.MethodName)) ∈ lw_tbl := lw_at lw_m8 32 rfl
theorem q1823 : (Jvm.Cond.instanceMethod ({ cls := "MirrorDoorsModel", name := "empty", desc := "(I)V" } : Jvm.MethodName)) ∈ lw_all := lw_g (lw_at lw_m8 33 rfl) rfl
theorem q1824 : (Jvm.Cond.code ({ cls := "MirrorDoorsModel", name := "empty", desc := "(I)V" } : Jvm.MethodName) prog_15_method_11_code (2 : Nat) (Option.none : Option Jvm.ClassFile.FieldType)) ∈ lw_all := lw_g (lw_at lw_m8 34 rfl) rfl
theorem q1825 : (Jvm.Cond.methodLink "MirrorDoorsModel" (98 : Nat) ({ cls := "MirrorDoorsModel", name := "put", desc := "(III)V" } : Jvm.MethodName)) ∈ lw_all := lw_g (lw_at lw_m8 35 rfl) rfl
theorem q1826 : (Jvm.Cond.privateMethod ({ cls := "MirrorDoorsModel", name := "put", desc := "(III)V" } : Jvm.MethodName)) ∈ lw_tbl := lw_at lw_m8 36 rfl
theorem q1827 : (Jvm.Cond.instanceMethod ({ cls := "MirrorDoorsModel", name := "put", desc := "(III)V" } : Jvm.MethodName)) ∈ lw_all := lw_g (lw_at lw_m8 37 rfl) rfl
theorem q1828 : (Jvm.Cond.code ({ cls := "MirrorDoorsModel", name := "put", desc := "(III)V" } : Jvm.MethodName) prog_15_method_7_code (4 : Nat) (Option.none : Option Jvm.ClassFile.FieldType)) ∈ lw_all := lw_g (lw_at lw_m8 38 rfl) rfl
theorem q1829 : (Jvm.Cond.methodLink "MirrorDoorsModel" (75 : Nat) ({ cls := "MirrorDoorsModel", name := "lay", desc := "(IIIII)V" } : Jvm.MethodName)) ∈ lw_all := lw_g (lw_at lw_m8 39 rfl) rfl
theorem q1830 : (Jvm.Cond.privateMethod ({ cls := "MirrorDoorsModel", name := "lay", desc := "(IIIII)V" } : Jvm.MethodName)) ∈ lw_tbl := lw_at lw_m8 40 rfl
theorem q1831 : (Jvm.Cond.instanceMethod ({ cls := "MirrorDoorsModel", name := "lay", desc := "(IIIII)V" } : Jvm.MethodName)) ∈ lw_all := lw_g (lw_at lw_m8 41 rfl) rfl
theorem q1832 : (Jvm.Cond.code ({ cls := "MirrorDoorsModel", name := "lay", desc := "(IIIII)V" } : Jvm.MethodName) prog_15_method_12_code (7 : Nat) (Option.none : Option Jvm.ClassFile.FieldType)) ∈ lw_all := lw_g (lw_at lw_m8 42 rfl) rfl
theorem q1833 : (Jvm.Cond.methodLink "MirrorDoorsModel" (102 : Nat) ({ cls := "MirrorDoorsModel", name := "cellAt", desc := "(II)I" } : Jvm.MethodName)) ∈ lw_all := lw_g (lw_at lw_m8 43 rfl) rfl
theorem q1834 : (Jvm.Cond.privateMethod ({ cls := "MirrorDoorsModel", name := "cellAt", desc := "(II)I" } : Jvm.MethodName)) ∈ lw_tbl := lw_at lw_m8 44 rfl
theorem q1835 : (Jvm.Cond.instanceMethod ({ cls := "MirrorDoorsModel", name := "cellAt", desc := "(II)I" } : Jvm.MethodName)) ∈ lw_all := lw_g (lw_at lw_m8 45 rfl) rfl
theorem q1836 : (Jvm.Cond.code ({ cls := "MirrorDoorsModel", name := "cellAt", desc := "(II)I" } : Jvm.MethodName) prog_15_method_8_code (3 : Nat) (Option.some Jvm.ClassFile.FieldType.int)) ∈ lw_all := lw_g (lw_at lw_m8 46 rfl) rfl
theorem q1837 : (Jvm.Cond.methodLink "MirrorDoorsModel" (79 : Nat) ({ cls := "MirrorDoorsModel", name := "openAll", desc := "()I" } : Jvm.MethodName)) ∈ lw_all := lw_g (lw_at lw_m8 47 rfl) rfl
theorem q1838 : (Jvm.Cond.privateMethod ({ cls := "MirrorDoorsModel", name := "openAll", desc := "()I" } : Jvm.MethodName)) ∈ lw_tbl := lw_at lw_m8 48 rfl
theorem q1839 : (Jvm.Cond.instanceMethod ({ cls := "MirrorDoorsModel", name := "openAll", desc := "()I" } : Jvm.MethodName)) ∈ lw_all := lw_g (lw_at lw_m8 49 rfl) rfl
theorem q1840 : (Jvm.Cond.code ({ cls := "MirrorDoorsModel", name := "openAll", desc := "()I" } : Jvm.MethodName) prog_15_method_31_code (7 : Nat) (Option.some Jvm.ClassFile.FieldType.int)) ∈ lw_all := lw_g (lw_at lw_m8 50 rfl) rfl
theorem q1841 : (Jvm.Cond.methodLink "MirrorDoorsModel" (167 : Nat) ({ cls := "MirrorDoorsModel", name := "hits", desc := "()I" } : Jvm.MethodName)) ∈ lw_all := lw_g (lw_at lw_m8 51 rfl) rfl
theorem q1842 : (Jvm.Cond.privateMethod ({ cls := "MirrorDoorsModel", name := "hits", desc := "()I" } : Jvm.MethodName)) ∈ lw_tbl := lw_at lw_m8 52 rfl
theorem q1843 : (Jvm.Cond.instanceMethod ({ cls := "MirrorDoorsModel", name := "hits", desc := "()I" } : Jvm.MethodName)) ∈ lw_all := lw_g (lw_at lw_m8 53 rfl) rfl
theorem q1844 : (Jvm.Cond.code ({ cls := "MirrorDoorsModel", name := "hits", desc := "()I" } : Jvm.MethodName) prog_15_method_30_code (4 : Nat) (Option.some Jvm.ClassFile.FieldType.int)) ∈ lw_all := lw_g (lw_at lw_m8 54 rfl) rfl
theorem q1845 : (Jvm.Cond.methodLink "MirrorDoorsModel" (149 : Nat) ({ cls := "MirrorDoorsModel", name := "shine", desc := "()V" } : Jvm.MethodName)) ∈ lw_all := lw_g (lw_at lw_m8 55 rfl) rfl
theorem q1846 : (Jvm.Cond.privateMethod ({ cls := "MirrorDoorsModel", name := "shine", desc := "()V" } : Jvm.MethodName)) ∈ lw_tbl := lw_at lw_m8 56 rfl
theorem q1847 : (Jvm.Cond.instanceMethod ({ cls := "MirrorDoorsModel", name := "shine", desc := "()V" } : Jvm.MethodName)) ∈ lw_all := lw_g (lw_at lw_m8 57 rfl) rfl
theorem q1848 : (Jvm.Cond.code ({ cls := "MirrorDoorsModel", name := "shine", desc := "()V" } : Jvm.MethodName) prog_15_method_24_code (3 : Nat) (Option.none : Option Jvm.ClassFile.FieldType)) ∈ lw_all := lw_g (lw_at lw_m8 58 rfl) rfl
theorem q1849 : (Jvm.Cond.methodLink "MirrorDoorsModel" (143 : Nat) ({ cls := "MirrorDoorsModel", name := "lamp", desc := "()I" } : Jvm.MethodName)) ∈ lw_all := lw_g (lw_at lw_m8 59 rfl) rfl
theorem q1850 : (Jvm.Cond.privateMethod ({ cls := "MirrorDoorsModel", name := "lamp", desc := "()I" } : Jvm.MethodName)) ∈ lw_tbl := lw_at lw_m8 60 rfl
theorem q1851 : (Jvm.Cond.instanceMethod ({ cls := "MirrorDoorsModel", name := "lamp", desc := "()I" } : Jvm.MethodName)) ∈ lw_all := lw_g (lw_at lw_m8 61 rfl) rfl
theorem q1852 : (Jvm.Cond.code ({ cls := "MirrorDoorsModel", name := "lamp", desc := "()I" } : Jvm.MethodName) prog_15_method_18_code (1 : Nat) (Option.some Jvm.ClassFile.FieldType.int)) ∈ lw_all := lw_g (lw_at lw_m8 62 rfl) rfl
theorem q1853 : (Jvm.Cond.methodLink "MirrorDoorsModel" (120 : Nat) ({ cls := "MirrorDoorsModel", name := "cellOf", desc := "(II)I" } : Jvm.MethodName)) ∈ lw_all := lw_g (lw_at lw_m8 63 rfl) rfl
theorem q1854 : (Jvm.Cond.privateMethod ({ cls := "MirrorDoorsModel", name := "cellOf", desc := "(II)I" } : Jvm.MethodName)) ∈ lw_tbl := lw_at lw_m8 64 rfl
theorem q1855 : (Jvm.Cond.instanceMethod ({ cls := "MirrorDoorsModel", name := "cellOf", desc := "(II)I" } : Jvm.MethodName)) ∈ lw_all := lw_g (lw_at lw_m8 65 rfl) rfl
theorem q1856 : (Jvm.Cond.code ({ cls := "MirrorDoorsModel", name := "cellOf", desc := "(II)I" } : Jvm.MethodName) prog_15_method_16_code (5 : Nat) (Option.some Jvm.ClassFile.FieldType.int)) ∈ lw_all := lw_g (lw_at lw_m8 66 rfl) rfl
theorem q1857 : (Jvm.Cond.methodLink "MirrorDoorsModel" (116 : Nat) ({ cls := "MirrorDoorsModel", name := "isOf", desc := "(II)Z" } : Jvm.MethodName)) ∈ lw_all := lw_g (lw_at lw_m8 67 rfl) rfl
theorem q1858 : (Jvm.Cond.privateMethod ({ cls := "MirrorDoorsModel", name := "isOf", desc := "(II)Z" } : Jvm.MethodName)) ∈ lw_tbl := lw_at lw_m8 68 rfl
theorem q1859 : (Jvm.Cond.instanceMethod ({ cls := "MirrorDoorsModel", name := "isOf", desc := "(II)Z" } : Jvm.MethodName)) ∈ lw_all := lw_g (lw_at lw_m8 69 rfl) rfl
theorem q1860 : (Jvm.Cond.code ({ cls := "MirrorDoorsModel", name := "isOf", desc := "(II)Z" } : Jvm.MethodName) prog_15_method_15_code (3 : Nat) (Option.some Jvm.ClassFile.FieldType.boolean)) ∈ lw_all := lw_g (lw_at lw_m8 70 rfl) rfl
theorem q1861 : (Jvm.Cond.methodLink "MirrorDoorsModel" (113 : Nat) ({ cls := "MirrorDoorsModel", name := "isCell", desc := "(I)Z" } : Jvm.MethodName)) ∈ lw_all := lw_g (lw_at lw_m8 71 rfl) rfl
theorem q1862 : (Jvm.Cond.privateMethod ({ cls := "MirrorDoorsModel", name := "isCell", desc := "(I)Z" } : Jvm.MethodName)) ∈ lw_tbl := lw_at lw_m8 72 rfl
theorem q1863 : (Jvm.Cond.instanceMethod ({ cls := "MirrorDoorsModel", name := "isCell", desc := "(I)Z" } : Jvm.MethodName)) ∈ lw_all := lw_g (lw_at lw_m8 73 rfl) rfl
theorem q1864 : (Jvm.Cond.code ({ cls := "MirrorDoorsModel", name := "isCell", desc := "(I)Z" } : Jvm.MethodName) prog_15_method_10_code (2 : Nat) (Option.some Jvm.ClassFile.FieldType.boolean)) ∈ lw_all := lw_g (lw_at lw_m8 74 rfl) rfl
theorem q1865 : (Jvm.Cond.methodLink "MirrorDoorsModel" (109 : Nat) ({ cls := "MirrorDoorsModel", name := "isMirror", desc := "(I)Z" } : Jvm.MethodName)) ∈ lw_all := lw_g (lw_at lw_m8 75 rfl) rfl
theorem q1866 : (Jvm.Cond.privateMethod ({ cls := "MirrorDoorsModel", name := "isMirror", desc := "(I)Z" } : Jvm.MethodName)) ∈ lw_tbl := lw_at lw_m8 76 rfl
theorem q1867 : (Jvm.Cond.instanceMethod ({ cls := "MirrorDoorsModel", name := "isMirror", desc := "(I)Z" } : Jvm.MethodName)) ∈ lw_all := lw_g (lw_at lw_m8 77 rfl) rfl
theorem q1868 : (Jvm.Cond.code ({ cls := "MirrorDoorsModel", name := "isMirror", desc := "(I)Z" } : Jvm.MethodName) prog_15_method_13_code (2 : Nat) (Option.some Jvm.ClassFile.FieldType.boolean)) ∈ lw_all := lw_g (lw_at lw_m8 78 rfl) rfl
theorem q1869 : (Jvm.Cond.methodLink "MirrorDoorsModel" (106 : Nat) ({ cls := "MirrorDoorsModel", name := "of", desc := "(II)I" } : Jvm.MethodName)) ∈ lw_all := lw_g (lw_at lw_m8 79 rfl) rfl
theorem q1870 : (Jvm.Cond.privateMethod ({ cls := "MirrorDoorsModel", name := "of", desc := "(II)I" } : Jvm.MethodName)) ∈ lw_tbl := lw_at lw_m8 80 rfl
theorem q1871 : (Jvm.Cond.instanceMethod ({ cls := "MirrorDoorsModel", name := "of", desc := "(II)I" } : Jvm.MethodName)) ∈ lw_all := lw_g (lw_at lw_m8 81 rfl) rfl
theorem q1872 : (Jvm.Cond.code ({ cls := "MirrorDoorsModel", name := "of", desc := "(II)I" } : Jvm.MethodName) prog_15_method_6_code (3 : Nat) (Option.some Jvm.ClassFile.FieldType.int)) ∈ lw_all := lw_g (lw_at lw_m8 82 rfl) rfl
theorem q1873 : (Jvm.Cond.methodLink "MirrorDoorsModel" (126 : Nat) ({ cls := "MirrorDoorsModel", name := "beside", desc := "(II)I" } : Jvm.MethodName)) ∈ lw_all := lw_g (lw_at lw_m8 83 rfl) rfl
theorem q1874 : (Jvm.Cond.privateMethod ({ cls := "MirrorDoorsModel", name := "beside", desc := "(II)I" } : Jvm.MethodName)) ∈ lw_tbl := lw_at lw_m8 84 rfl
theorem q1875 : (Jvm.Cond.instanceMethod ({ cls := "MirrorDoorsModel", name := "beside", desc := "(II)I" } : Jvm.MethodName)) ∈ lw_all := lw_g (lw_at lw_m8 85 rfl) rfl
theorem q1876 : (Jvm.Cond.code ({ cls := "MirrorDoorsModel", name := "beside", desc := "(II)I" } : Jvm.MethodName) prog_15_method_19_code (5 : Nat) (Option.some Jvm.ClassFile.FieldType.int)) ∈ lw_all := lw_g (lw_at lw_m8 86 rfl) rfl
theorem q1877 : (Jvm.Cond.methodLink "MirrorDoorsModel" (123 : Nat) ({ cls := "MirrorDoorsModel", name := "onBoard", desc := "(II)Z" } : Jvm.MethodName)) ∈ lw_all := lw_g (lw_at lw_m8 87 rfl) rfl
theorem q1878 : (Jvm.Cond.privateMethod ({ cls := "MirrorDoorsModel", name := "onBoard", desc := "(II)Z" } : Jvm.MethodName)) ∈ lw_tbl := lw_at lw_m8 88 rfl
theorem q1879 : (Jvm.Cond.instanceMethod ({ cls := "MirrorDoorsModel", name := "onBoard", desc := "(II)Z" } : Jvm.MethodName)) ∈ lw_all := lw_g (lw_at lw_m8 89 rfl) rfl
theorem q1880 : (Jvm.Cond.code ({ cls := "MirrorDoorsModel", name := "onBoard", desc := "(II)Z" } : Jvm.MethodName) prog_15_method_9_code (3 : Nat) (Option.some Jvm.ClassFile.FieldType.boolean)) ∈ lw_all := lw_g (lw_at lw_m8 90 rfl) rfl
theorem q1881 : (Jvm.Cond.methodLink "MirrorDoorsModel" (146 : Nat) ({ cls := "MirrorDoorsModel", name := "spread", desc := "(I[Z)V" } : Jvm.MethodName)) ∈ lw_all := lw_g (lw_at lw_m8 91 rfl) rfl
theorem q1882 : (Jvm.Cond.privateMethod ({ cls := "MirrorDoorsModel", name := "spread", desc := "(I[Z)V" } : Jvm.MethodName)) ∈ lw_tbl := lw_at lw_m8 92 rfl
theorem q1883 : (Jvm.Cond.instanceMethod ({ cls := "MirrorDoorsModel", name := "spread", desc := "(I[Z)V" } : Jvm.MethodName)) ∈ lw_all := lw_g (lw_at lw_m8 93 rfl) rfl
theorem q1884 : (Jvm.Cond.code ({ cls := "MirrorDoorsModel", name := "spread", desc := "(I[Z)V" } : Jvm.MethodName) prog_15_method_23_code (3 : Nat) (Option.none : Option Jvm.ClassFile.FieldType)) ∈ lw_all := lw_g (lw_at lw_m8 94 rfl) rfl
theorem q1885 : (Jvm.Cond.methodLink "MirrorDoorsModel" (139 : Nat) ({ cls := "MirrorDoorsModel", name := "markBehind", desc := "(I[Z)V" } : Jvm.MethodName)) ∈ lw_all := lw_g (lw_at lw_m8 95 rfl) rfl
theorem q1886 : (Jvm.Cond.privateMethod ({ cls := "MirrorDoorsModel", name := "markBehind", desc := "(I[Z)V" } : Jvm.MethodName)) ∈ lw_tbl := lw_at lw_m8 96 rfl
theorem q1887 : (Jvm.Cond.instanceMethod ({ cls := "MirrorDoorsModel", name := "markBehind", desc := "(I[Z)V" } : Jvm.MethodName)) ∈ lw_all := lw_g (lw_at lw_m8 97 rfl) rfl
theorem q1888 : (Jvm.Cond.code ({ cls := "MirrorDoorsModel", name := "markBehind", desc := "(I[Z)V" } : Jvm.MethodName) prog_15_method_22_code (5 : Nat) (Option.none : Option Jvm.ClassFile.FieldType)) ∈ lw_all := lw_g (lw_at lw_m8 98 rfl) rfl
theorem q1889 : (Jvm.Cond.methodLink "MirrorDoorsModel" (132 : Nat) ({ cls := "MirrorDoorsModel", name := "tries", desc := "(I)I" } : Jvm.MethodName)) ∈ lw_all := lw_g (lw_at lw_m8 99 rfl) rfl
theorem q1890 : (Jvm.Cond.privateMethod ({ cls := "MirrorDoorsModel", name := "tries", desc := "(I)I" } : Jvm.MethodName)) ∈ lw_tbl := lw_at lw_m8 100 rfl
theorem q1891 : (Jvm.Cond.instanceMethod ({ cls := "MirrorDoorsModel", name := "tries", desc := "(I)I" } : Jvm.MethodName)) ∈ lw_all := lw_g (lw_at lw_m8 101 rfl) rfl
theorem q1892 : (Jvm.Cond.code ({ cls := "MirrorDoorsModel", name := "tries", desc := "(I)I" } : Jvm.MethodName) prog_15_method_21_code (4 : Nat) (Option.some Jvm.ClassFile.FieldType.int)) ∈ lw_all := lw_g (lw_at lw_m8 102 rfl) rfl
theorem q1893 : (Jvm.Cond.methodLink "MirrorDoorsModel" (129 : Nat) ({ cls := "MirrorDoorsModel", name := "turned", desc := "(II)I" } : Jvm.MethodName)) ∈ lw_all := lw_g (lw_at lw_m8 103 rfl) rfl
theorem q1894 : (Jvm.Cond.static ({ cls := "MirrorDoorsModel", name := "turned", desc := "(II)I" } : Jvm.MethodName)) ∈ lw_all := lw_g (lw_at lw_m8 104 rfl) rfl
theorem q1895 : (Jvm.Cond.code ({ cls := "MirrorDoorsModel", name := "turned", desc := "(II)I" } : Jvm.MethodName) prog_15_method_20_code (2 : Nat) (Option.some Jvm.ClassFile.FieldType.int)) ∈ lw_all := lw_g (lw_at lw_m8 105 rfl) rfl
theorem q1896 : (Jvm.Cond.methodLink "MirrorDoorsModel" (161 : Nat) ({ cls := "MirrorDoorsModel", name := "count", desc := "(I)I" } : Jvm.MethodName)) ∈ lw_all := lw_g (lw_at lw_m8 106 rfl) rfl
theorem q1897 : (Jvm.Cond.privateMethod ({ cls := "MirrorDoorsModel", name := "count", desc := "(I)I" } : Jvm.MethodName)) ∈ lw_tbl := lw_at lw_m8 107 rfl
theorem q1898 : (Jvm.Cond.instanceMethod ({ cls := "MirrorDoorsModel", name := "count", desc := "(I)I" } : Jvm.MethodName)) ∈ lw_all := lw_g (lw_at lw_m8 108 rfl) rfl
theorem q1899 : (Jvm.Cond.code ({ cls := "MirrorDoorsModel", name := "count", desc := "(I)I" } : Jvm.MethodName) prog_15_method_14_code (5 : Nat) (Option.some Jvm.ClassFile.FieldType.int)) ∈ lw_all := lw_g (lw_at lw_m8 109 rfl) rfl
theorem q1900 : (Jvm.Cond.methodLink "MirrorDoorsModel" (164 : Nat) ({ cls := "MirrorDoorsModel", name := "litIn", desc := "(I)I" } : Jvm.MethodName)) ∈ lw_all := lw_g (lw_at lw_m8 110 rfl) rfl
theorem q1901 : (Jvm.Cond.privateMethod ({ cls := "MirrorDoorsModel", name := "litIn", desc := "(I)I" } : Jvm.MethodName)) ∈ lw_tbl := lw_at lw_m8 111 rfl
theorem q1902 : (Jvm.Cond.instanceMethod ({ cls := "MirrorDoorsModel", name := "litIn", desc := "(I)I" } : Jvm.MethodName)) ∈ lw_all := lw_g (lw_at lw_m8 112 rfl) rfl
theorem q1903 : (Jvm.Cond.code ({ cls := "MirrorDoorsModel", name := "litIn", desc := "(I)I" } : Jvm.MethodName) prog_15_method_29_code (4 : Nat) (Option.some Jvm.ClassFile.FieldType.int)) ∈ lw_all := lw_g (lw_at lw_m8 113 rfl) rfl
theorem q1904 : (Jvm.Cond.fieldLink "MirrorDoorsModel" (83 : Nat) "MirrorDoorsModel" "thrown" "I") ∈ lw_all := lw_g (lw_at lw_m8 114 rfl) rfl
theorem q1905 : (Jvm.Cond.fieldLink "MirrorDoorsModel" (9 : Nat) "MirrorDoorsModel" "w" "[I") ∈ lw_all := lw_g (lw_at lw_m8 115 rfl) rfl
theorem q1906 : (Jvm.Cond.fieldLink "MirrorDoorsModel" (15 : Nat) "MirrorDoorsModel" "past" "[[I") ∈ lw_all := lw_g (lw_at lw_m8 116 rfl) rfl
theorem q1907 : (Jvm.Cond.fieldLink "MirrorDoorsModel" (91 : Nat) "MirrorDoorsModel" "pastCount" "I") ∈ lw_all := lw_g (lw_at lw_m8 117 rfl) rfl
theorem q1908 : (Jvm.Cond.fieldLink "MirrorDoorsModel" (18 : Nat) "MirrorDoorsModel" "slots" "[[I") ∈ lw_all := lw_g (lw_at lw_m8 118 rfl) rfl
theorem q1909 : (Jvm.Cond.fieldLink "MirrorDoorsModel" (21 : Nat) "MirrorDoorsModel" "isKept" "[Z") ∈ lw_all := lw_g (lw_at lw_m8 119 rfl) rfl
theorem q1910 : (Jvm.Cond.fieldLink "MirrorDoorsModel" (25 : Nat) "MirrorDoorsModel" "before" "[I") ∈ lw_all := lw_g (lw_at lw_m8 120 rfl) rfl
theorem q1911 : (Jvm.Cond.fieldLink "MirrorDoorsModel" (28 : Nat) "MirrorDoorsModel" "aside" "[I") ∈ lw_all := lw_g (lw_at lw_m8 121 rfl) rfl
theorem q1912 : (Jvm.Cond.fieldLink "MirrorDoorsModel" (31 : Nat) "MirrorDoorsModel" "levels" "[[I") ∈ lw_all := lw_g (lw_at lw_m8 122 rfl) rfl
theorem q1913 : (Jvm.Cond.fieldLink "MirrorDoorsModel" (34 : Nat) "MirrorDoorsModel" "bestAt" "[I") ∈ lw_all := lw_g (lw_at lw_m8 123 rfl) rfl
theorem q1914 : (Jvm.Cond.fieldLink "MirrorDoorsModel" (37 : Nat) "MirrorDoorsModel" "nextAt" "[I") ∈ lw_all := lw_g (lw_at lw_m8 124 rfl) rfl
theorem q1915 : (Jvm.Cond.fieldLink "MirrorDoorsModel" (40 : Nat) "MirrorDoorsModel" "movedAt" "[Z") ∈ lw_all := lw_g (lw_at lw_m8 125 rfl) rfl
theorem q1916 : (Jvm.Cond.fieldLink "MirrorDoorsModel" (43 : Nat) "MirrorDoorsModel" "text" "[I") ∈ lw_all := lw_g (lw_at lw_m8 126 rfl) rfl
theorem q1917 : (Jvm.Cond.fieldLink "MirrorDoorsModel" (218 : Nat) "MirrorDoorsModel" "typed" "I") ∈ lw_all := lw_g (lw_at lw_m8 127 rfl) rfl
theorem q1918 : (Jvm.Cond.fieldLink "MirrorDoorsModel" (46 : Nat) "MirrorDoorsModel" "report" "[B") ∈ lw_all := lw_g (lw_at lw_m8 128 rfl) rfl
theorem q1919 : (Jvm.Cond.fieldLink "MirrorDoorsModel" (378 : Nat) "MirrorDoorsModel" "reported" "I") ∈ lw_all := lw_g (lw_at lw_m8 129 rfl) rfl
theorem q1920 : (Jvm.Cond.fieldLink "MirrorDoorsModel" (50 : Nat) "MirrorDoorsModel" "isLit" "[Z") ∈ lw_all := lw_g (lw_at lw_m8 130 rfl) rfl
theorem q1921 : (Jvm.Cond.fieldLink "MirrorDoorsModel" (53 : Nat) "MirrorDoorsModel" "numbers" "[I") ∈ lw_all := lw_g (lw_at lw_m8 131 rfl) rfl
theorem q1922 : (Jvm.Cond.fieldLink "MirrorDoorsModel" (56 : Nat) "MirrorDoorsModel" "order" "[I") ∈ lw_all := lw_g (lw_at lw_m8 132 rfl) rfl
theorem q1923 : (Jvm.Cond.fieldLink "MirrorDoorsModel" (59 : Nat) "MirrorDoorsModel" "steps" "[I") ∈ lw_all := lw_g (lw_at lw_m8 133 rfl) rfl
theorem q1924 : (Jvm.Cond.fieldLink "MirrorDoorsModel" (62 : Nat) "MirrorDoorsModel" "reached" "[Z") ∈ lw_all := lw_g (lw_at lw_m8 134 rfl) rfl
theorem q1925 : (Jvm.Cond.fieldLink "MirrorDoorsModel" (65 : Nat) "MirrorDoorsModel" "behind" "[I") ∈ lw_all := lw_g (lw_at lw_m8 135 rfl) rfl
theorem q1926 : (Jvm.Cond.fieldLink "MirrorDoorsModel" (68 : Nat) "MirrorDoorsModel" "waiting" "[I") ∈ lw_all := lw_g (lw_at lw_m8 136 rfl) rfl
theorem q1927 : (Jvm.Cond.fieldLink "MirrorDoorsModel" (136 : Nat) "MirrorDoorsModel" "waits" "I") ∈ lw_all := lw_g (lw_at lw_m8 137 rfl) rfl
theorem q1928 : (Jvm.Cond.fieldLink "MirrorDoorsModel" (152 : Nat) "MirrorDoorsModel" "beams" "I") ∈ lw_all := lw_g (lw_at lw_m8 138 rfl) rfl
theorem q1929 : (Jvm.Cond.fieldLink "MirrorDoorsModel" (155 : Nat) "MirrorDoorsModel" "leaves" "I") ∈ lw_all := lw_g (lw_at lw_m8 139 rfl) rfl
theorem q1930 : (Jvm.Cond.fieldLink "MirrorDoorsModel" (221 : Nat) "MirrorDoorsModel" "at" "I") ∈ lw_all := lw_g (lw_at lw_m8 140 rfl) rfl
theorem q1931 : (Jvm.Cond.fieldLink "MirrorDoorsModel" (224 : Nat) "MirrorDoorsModel" "from" "I") ∈ lw_all := lw_g (lw_at lw_m8 141 rfl) rfl
theorem q1932 : (Jvm.Cond.fieldLink "MirrorDoorsModel" (227 : Nat) "MirrorDoorsModel" "kind" "I") ∈ lw_all := lw_g (lw_at lw_m8 142 rfl) rfl
theorem q1933 : (Jvm.Cond.fieldLink "MirrorDoorsModel" (236 : Nat) "MirrorDoorsModel" "value" "I") ∈ lw_all := lw_g (lw_at lw_m8 143 rfl) rfl
theorem q1934 : (Jvm.Cond.fieldLink "MirrorDoorsModel" (248 : Nat) "MirrorDoorsModel" "fault" "I") ∈ lw_all := lw_g (lw_at lw_m8 144 rfl) rfl
theorem q1935 : (Jvm.Cond.lays "MirrorDoorsModel" "MirrorDoorsModel" "thrown" "I") ∈ lw_all := lw_g (lw_at lw_m8 145 rfl) rfl
theorem q1936 : (Jvm.Cond.soleField "MirrorDoorsModel" "thrown") ∈ lw_all := lw_g (lw_at lw_m8 146 rfl) rfl
theorem q1937 : (Jvm.Cond.laysFinal "MirrorDoorsModel" "MirrorDoorsModel" "w" "[I") ∈ lw_all := lw_g (lw_at lw_m8 147 rfl) rfl
theorem q1938 : (Jvm.Cond.soleField "MirrorDoorsModel" "w") ∈ lw_all := lw_g (lw_at lw_m8 148 rfl) rfl
theorem q1939 : (Jvm.Cond.laysFinal "MirrorDoorsModel" "MirrorDoorsModel" "past" "[[I") ∈ lw_all := lw_g (lw_at lw_m8 149 rfl) rfl
theorem q1940 : (Jvm.Cond.soleField "MirrorDoorsModel" "past") ∈ lw_all := lw_g (lw_at lw_m8 150 rfl) rfl
theorem q1941 : (Jvm.Cond.lays "MirrorDoorsModel" "MirrorDoorsModel" "pastCount" "I") ∈ lw_all := lw_g (lw_at lw_m8 151 rfl) rfl
theorem q1942 : (Jvm.Cond.soleField "MirrorDoorsModel" "pastCount") ∈ lw_all := lw_g (lw_at lw_m8 152 rfl) rfl
theorem q1943 : (Jvm.Cond.laysFinal "MirrorDoorsModel" "MirrorDoorsModel" "slots" "[[I") ∈ lw_all := lw_g (lw_at lw_m8 153 rfl) rfl
theorem q1944 : (Jvm.Cond.soleField "MirrorDoorsModel" "slots") ∈ lw_all := lw_g (lw_at lw_m8 154 rfl) rfl
theorem q1945 : (Jvm.Cond.laysFinal "MirrorDoorsModel" "MirrorDoorsModel" "isKept" "[Z") ∈ lw_all := lw_g (lw_at lw_m8 155 rfl) rfl
theorem q1946 : (Jvm.Cond.soleField "MirrorDoorsModel" "isKept") ∈ lw_all := lw_g (lw_at lw_m8 156 rfl) rfl
theorem q1947 : (Jvm.Cond.laysFinal "MirrorDoorsModel" "MirrorDoorsModel" "before" "[I") ∈ lw_all := lw_g (lw_at lw_m8 157 rfl) rfl
theorem q1948 : (Jvm.Cond.soleField "MirrorDoorsModel" "before") ∈ lw_all := lw_g (lw_at lw_m8 158 rfl) rfl
theorem q1949 : (Jvm.Cond.laysFinal "MirrorDoorsModel" "MirrorDoorsModel" "aside" "[I") ∈ lw_all := lw_g (lw_at lw_m8 159 rfl) rfl
theorem q1950 : (Jvm.Cond.soleField "MirrorDoorsModel" "aside") ∈ lw_all := lw_g (lw_at lw_m8 160 rfl) rfl
theorem q1951 : (Jvm.Cond.laysFinal "MirrorDoorsModel" "MirrorDoorsModel" "levels" "[[I") ∈ lw_all := lw_g (lw_at lw_m8 161 rfl) rfl
theorem q1952 : (Jvm.Cond.soleField "MirrorDoorsModel" "levels") ∈ lw_all := lw_g (lw_at lw_m8 162 rfl) rfl
theorem q1953 : (Jvm.Cond.laysFinal "MirrorDoorsModel" "MirrorDoorsModel" "bestAt" "[I") ∈ lw_all := lw_g (lw_at lw_m8 163 rfl) rfl
theorem q1954 : (Jvm.Cond.soleField "MirrorDoorsModel" "bestAt") ∈ lw_all := lw_g (lw_at lw_m8 164 rfl) rfl
theorem q1955 : (Jvm.Cond.laysFinal "MirrorDoorsModel" "MirrorDoorsModel" "nextAt" "[I") ∈ lw_all := lw_g (lw_at lw_m8 165 rfl) rfl
theorem q1956 : (Jvm.Cond.soleField "MirrorDoorsModel" "nextAt") ∈ lw_all := lw_g (lw_at lw_m8 166 rfl) rfl
theorem q1957 : (Jvm.Cond.laysFinal "MirrorDoorsModel" "MirrorDoorsModel" "movedAt" "[Z") ∈ lw_all := lw_g (lw_at lw_m8 167 rfl) rfl
theorem q1958 : (Jvm.Cond.soleField "MirrorDoorsModel" "movedAt") ∈ lw_all := lw_g (lw_at lw_m8 168 rfl) rfl
theorem q1959 : (Jvm.Cond.laysFinal "MirrorDoorsModel" "MirrorDoorsModel" "text" "[I") ∈ lw_all := lw_g (lw_at lw_m8 169 rfl) rfl
theorem q1960 : (Jvm.Cond.soleField "MirrorDoorsModel" "text") ∈ lw_all := lw_g (lw_at lw_m8 170 rfl) rfl
theorem q1961 : (Jvm.Cond.lays "MirrorDoorsModel" "MirrorDoorsModel" "typed" "I") ∈ lw_all := lw_g (lw_at lw_m8 171 rfl) rfl
theorem q1962 : (Jvm.Cond.soleField "MirrorDoorsModel" "typed") ∈ lw_all := lw_g (lw_at lw_m8 172 rfl) rfl
theorem q1963 : (Jvm.Cond.laysFinal "MirrorDoorsModel" "MirrorDoorsModel" "report" "[B") ∈ lw_all := lw_g (lw_at lw_m8 173 rfl) rfl
theorem q1964 : (Jvm.Cond.soleField "MirrorDoorsModel" "report") ∈ lw_all := lw_g (lw_at lw_m8 174 rfl) rfl
theorem q1965 : (Jvm.Cond.lays "MirrorDoorsModel" "MirrorDoorsModel" "reported" "I") ∈ lw_all := lw_g (lw_at lw_m8 175 rfl) rfl
theorem q1966 : (Jvm.Cond.soleField "MirrorDoorsModel" "reported") ∈ lw_all := lw_g (lw_at lw_m8 176 rfl) rfl
theorem q1967 : (Jvm.Cond.laysFinal "MirrorDoorsModel" "MirrorDoorsModel" "isLit" "[Z") ∈ lw_all := lw_g (lw_at lw_m8 177 rfl) rfl
theorem q1968 : (Jvm.Cond.soleField "MirrorDoorsModel" "isLit") ∈ lw_all := lw_g (lw_at lw_m8 178 rfl) rfl
theorem q1969 : (Jvm.Cond.laysFinal "MirrorDoorsModel" "MirrorDoorsModel" "numbers" "[I") ∈ lw_all := lw_g (lw_at lw_m8 179 rfl) rfl
theorem q1970 : (Jvm.Cond.soleField "MirrorDoorsModel" "numbers") ∈ lw_all := lw_g (lw_at lw_m8 180 rfl) rfl
theorem q1971 : (Jvm.Cond.laysFinal "MirrorDoorsModel" "MirrorDoorsModel" "order" "[I") ∈ lw_all := lw_g (lw_at lw_m8 181 rfl) rfl
theorem q1972 : (Jvm.Cond.soleField "MirrorDoorsModel" "order") ∈ lw_all := lw_g (lw_at lw_m8 182 rfl) rfl
theorem q1973 : (Jvm.Cond.laysFinal "MirrorDoorsModel" "MirrorDoorsModel" "steps" "[I") ∈ lw_all := lw_g (lw_at lw_m8 183 rfl) rfl
theorem q1974 : (Jvm.Cond.soleField "MirrorDoorsModel" "steps") ∈ lw_all := lw_g (lw_at lw_m8 184 rfl) rfl
theorem q1975 : (Jvm.Cond.laysFinal "MirrorDoorsModel" "MirrorDoorsModel" "reached" "[Z") ∈ lw_all := lw_g (lw_at lw_m8 185 rfl) rfl
theorem q1976 : (Jvm.Cond.soleField "MirrorDoorsModel" "reached") ∈ lw_all := lw_g (lw_at lw_m8 186 rfl) rfl
theorem q1977 : (Jvm.Cond.laysFinal "MirrorDoorsModel" "MirrorDoorsModel" "behind" "[I") ∈ lw_all := lw_g (lw_at lw_m8 187 rfl) rfl
theorem q1978 : (Jvm.Cond.soleField "MirrorDoorsModel" "behind") ∈ lw_all := lw_g (lw_at lw_m8 188 rfl) rfl
theorem q1979 : (Jvm.Cond.laysFinal "MirrorDoorsModel" "MirrorDoorsModel" "waiting" "[I") ∈ lw_all := lw_g (lw_at lw_m8 189 rfl) rfl
theorem q1980 : (Jvm.Cond.soleField "MirrorDoorsModel" "waiting") ∈ lw_all := lw_g (lw_at lw_m8 190 rfl) rfl
theorem q1981 : (Jvm.Cond.lays "MirrorDoorsModel" "MirrorDoorsModel" "waits" "I") ∈ lw_all := lw_g (lw_at lw_m8 191 rfl) rfl
theorem q1982 : (Jvm.Cond.soleField "MirrorDoorsModel" "waits") ∈ lw_all := lw_g (lw_at lw_m8 192 rfl) rfl
theorem q1983 : (Jvm.Cond.lays "MirrorDoorsModel" "MirrorDoorsModel" "beams" "I") ∈ lw_all := lw_g (lw_at lw_m8 193 rfl) rfl
theorem q1984 : (Jvm.Cond.soleField "MirrorDoorsModel" "beams") ∈ lw_all := lw_g (lw_at lw_m8 194 rfl) rfl
theorem q1985 : (Jvm.Cond.lays "MirrorDoorsModel" "MirrorDoorsModel" "leaves" "I") ∈ lw_all := lw_g (lw_at lw_m8 195 rfl) rfl
theorem q1986 : (Jvm.Cond.soleField "MirrorDoorsModel" "leaves") ∈ lw_all := lw_g (lw_at lw_m8 196 rfl) rfl
theorem q1987 : (Jvm.Cond.lays "MirrorDoorsModel" "MirrorDoorsModel" "at" "I") ∈ lw_all := lw_g (lw_at lw_m8 197 rfl) rfl
theorem q1988 : (Jvm.Cond.soleField "MirrorDoorsModel" "at") ∈ lw_all := lw_g (lw_at lw_m8 198 rfl) rfl
theorem q1989 : (Jvm.Cond.lays "MirrorDoorsModel" "MirrorDoorsModel" "from" "I") ∈ lw_all := lw_g (lw_at lw_m8 199 rfl) rfl
theorem q1990 : (Jvm.Cond.soleField "MirrorDoorsModel" "from") ∈ lw_all := lw_g (lw_at lw_m8 200 rfl) rfl
theorem q1991 : (Jvm.Cond.lays "MirrorDoorsModel" "MirrorDoorsModel" "kind" "I") ∈ lw_all := lw_g (lw_at lw_m8 201 rfl) rfl
theorem q1992 : (Jvm.Cond.soleField "MirrorDoorsModel" "kind") ∈ lw_all := lw_g (lw_at lw_m8 202 rfl) rfl
theorem q1993 : (Jvm.Cond.lays "MirrorDoorsModel" "MirrorDoorsModel" "value" "I") ∈ lw_all := lw_g (lw_at lw_m8 203 rfl) rfl
theorem q1994 : (Jvm.Cond.soleField "MirrorDoorsModel" "value") ∈ lw_all := lw_g (lw_at lw_m8 204 rfl) rfl
theorem q1995 : (Jvm.Cond.lays "MirrorDoorsModel" "MirrorDoorsModel" "fault" "I") ∈ lw_all := lw_g (lw_at lw_m8 205 rfl) rfl
theorem q1996 : (Jvm.Cond.soleField "MirrorDoorsModel" "fault") ∈ lw_all := lw_g (lw_at lw_m8 206 rfl) rfl
theorem q1997 : (Jvm.Cond.superclass "MirrorDoorsModel" "java/lang/Object") ∈ lw_all := lw_g (lw_at lw_m8 207 rfl) rfl
theorem q2000 : (Jvm.Cond.instanceMethod ({ cls := "MirrorDoorsModel", name := "thrown", desc := "()I" } : Jvm.MethodName)) ∈ lw_all := lw_g (lw_at lw_m8 210 rfl) rfl
theorem q2001 : (Jvm.Cond.selects "MirrorDoorsModel" ({ cls := "MirrorDoorsModel", name := "thrown", desc := "()I" } : Jvm.MethodName) ({ cls := "MirrorDoorsModel", name := "thrown", desc := "()I" } : Jvm.MethodName)) ∈ lw_all := lw_g (lw_at lw_m8 211 rfl) rfl
theorem q2002 : (Jvm.Cond.code ({ cls := "MirrorDoorsModel", name := "thrown", desc := "()I" } : Jvm.MethodName) prog_15_method_2_code (1 : Nat) (Option.some Jvm.ClassFile.FieldType.int)) ∈ lw_all := lw_g (lw_at lw_m8 212 rfl) rfl
theorem q2004 : (Jvm.Cond.instanceMethod ({ cls := "MirrorDoorsModel", name := "putWall", desc := "(II)I" } : Jvm.MethodName)) ∈ lw_all := lw_g (lw_at lw_m8 214 rfl) rfl
theorem q2005 : (Jvm.Cond.selects "MirrorDoorsModel" ({ cls := "MirrorDoorsModel", name := "putWall", desc := "(II)I" } : Jvm.MethodName) ({ cls := "MirrorDoorsModel", name := "putWall", desc := "(II)I" } : Jvm.MethodName)) ∈ lw_all := lw_g (lw_at lw_m8 215 rfl) rfl
theorem q2006 : (Jvm.Cond.code ({ cls := "MirrorDoorsModel", name := "putWall", desc := "(II)I" } : Jvm.MethodName) prog_15_method_44_code (4 : Nat) (Option.some Jvm.ClassFile.FieldType.int)) ∈ lw_all := lw_g (lw_at lw_m8 216 rfl) rfl
theorem q2007 : (Jvm.Cond.methodLink "MirrorDoorsModel" (191 : Nat) ({ cls := "MirrorDoorsModel", name := "noCell", desc := "(II)Z" } : Jvm.MethodName)) ∈ lw_all := lw_g (lw_at lw_m8 217 rfl) rfl
theorem q2008 : (Jvm.Cond.privateMethod ({ cls := "MirrorDoorsModel", name := "noCell", desc := "(II)Z" } : Jvm.MethodName)) ∈ lw_tbl := lw_at lw_m8 218 rfl
theorem q2009 : (Jvm.Cond.instanceMethod ({ cls := "MirrorDoorsModel", name := "noCell", desc := "(II)Z" } : Jvm.MethodName)) ∈ lw_all := lw_g (lw_at lw_m8 219 rfl) rfl
theorem q2010 : (Jvm.Cond.code ({ cls := "MirrorDoorsModel", name := "noCell", desc := "(II)Z" } : Jvm.MethodName) prog_15_method_41_code (3 : Nat) (Option.some Jvm.ClassFile.FieldType.boolean)) ∈ lw_all := lw_g (lw_at lw_m8 220 rfl) rfl
theorem q2011 : (Jvm.Cond.methodLink "MirrorDoorsModel" (194 : Nat) ({ cls := "MirrorDoorsModel", name := "noLay", desc := "(II)I" } : Jvm.MethodName)) ∈ lw_all := lw_g (lw_at lw_m8 221 rfl) rfl
theorem q2012 : (Jvm.Cond.privateMethod ({ cls := "MirrorDoorsModel", name := "noLay", desc := "(II)I" } : Jvm.MethodName)) ∈ lw_tbl := lw_at lw_m8 222 rfl
theorem q2013 : (Jvm.Cond.instanceMethod ({ cls := "MirrorDoorsModel", name := "noLay", desc := "(II)I" } : Jvm.MethodName)) ∈ lw_all := lw_g (lw_at lw_m8 223 rfl) rfl
theorem q2014 : (Jvm.Cond.code ({ cls := "MirrorDoorsModel", name := "noLay", desc := "(II)I" } : Jvm.MethodName) prog_15_method_42_code (3 : Nat) (Option.some Jvm.ClassFile.FieldType.int)) ∈ lw_all := lw_g (lw_at lw_m8 224 rfl) rfl
theorem q2015 : (Jvm.Cond.methodLink "MirrorDoorsModel" (197 : Nat) ({ cls := "MirrorDoorsModel", name := "change", desc := "(IIIII)I" } : Jvm.MethodName)) ∈ lw_all := lw_g (lw_at lw_m8 225 rfl) rfl
theorem q2016 : (Jvm.Cond.privateMethod ({ cls := "MirrorDoorsModel", name := "change", desc := "(IIIII)I" } : Jvm.MethodName)) ∈ lw_tbl := lw_at lw_m8 226 rfl
theorem q2017 : (Jvm.Cond.instanceMethod ({ cls := "MirrorDoorsModel", name := "change", desc := "(IIIII)I" } : Jvm.MethodName)) ∈ lw_all := lw_g (lw_at lw_m8 227 rfl) rfl
theorem q2018 : (Jvm.Cond.code ({ cls := "MirrorDoorsModel", name := "change", desc := "(IIIII)I" } : Jvm.MethodName) prog_15_method_43_code (6 : Nat) (Option.some Jvm.ClassFile.FieldType.int)) ∈ lw_all := lw_g (lw_at lw_m8 228 rfl) rfl
theorem q2019 : (Jvm.Cond.methodLink "MirrorDoorsModel" (187 : Nat) ({ cls := "MirrorDoorsModel", name := "keepPast", desc := "([I)V" } : Jvm.MethodName)) ∈ lw_all := lw_g (lw_at lw_m8 229 rfl) rfl
theorem q2020 : (Jvm.Cond.privateMethod ({ cls := "MirrorDoorsModel", name := "keepPast", desc := "([I)V" } : Jvm.MethodName)) ∈ lw_tbl := lw_at lw_m8 230 rfl
theorem q2021 : (Jvm.Cond.instanceMethod ({ cls := "MirrorDoorsModel", name := "keepPast", desc := "([I)V" } : Jvm.MethodName)) ∈ lw_all := lw_g (lw_at lw_m8 231 rfl) rfl
theorem q2022 : (Jvm.Cond.code ({ cls := "MirrorDoorsModel", name := "keepPast", desc := "([I)V" } : Jvm.MethodName) prog_15_method_5_code (4 : Nat) (Option.none : Option Jvm.ClassFile.FieldType)) ∈ lw_all := lw_g (lw_at lw_m8 232 rfl) rfl
theorem q2023 : (Jvm.Cond.methodLink "MirrorDoorsModel" (94 : Nat) ({ cls := "MirrorDoorsModel", name := "copy", desc := "([I[I)V" } : Jvm.MethodName)) ∈ lw_all := lw_g (lw_at lw_m8 233 rfl) rfl
theorem q2024 : (Jvm.Cond.static ({ cls := "MirrorDoorsModel", name := "copy", desc := "([I[I)V" } : Jvm.MethodName)) ∈ lw_all := lw_g (lw_at lw_m8 234 rfl) rfl
theorem q2025 : (Jvm.Cond.code ({ cls := "MirrorDoorsModel", name := "copy", desc := "([I[I)V" } : Jvm.MethodName) prog_15_method_3_code (3 : Nat) (Option.none : Option Jvm.ClassFile.FieldType)) ∈ lw_all := lw_g (lw_at lw_m8 235 rfl) rfl
theorem q2027 : (Jvm.Cond.instanceMethod ({ cls := "MirrorDoorsModel", name := "putMirror", desc := "(IIZII)I" } : Jvm.MethodName)) ∈ lw_all := lw_g (lw_at lw_m8 237 rfl) rfl
theorem q2028 : (Jvm.Cond.selects "MirrorDoorsModel" ({ cls := "MirrorDoorsModel", name := "putMirror", desc := "(IIZII)I" } : Jvm.MethodName) ({ cls := "MirrorDoorsModel", name := "putMirror", desc := "(IIZII)I" } : Jvm.MethodName)) ∈ lw_all := lw_g (lw_at lw_m8 238 rfl) rfl
theorem q2029 : (Jvm.Cond.code ({ cls := "MirrorDoorsModel", name := "putMirror", desc := "(IIZII)I" } : Jvm.MethodName) prog_15_method_45_code (7 : Nat) (Option.some Jvm.ClassFile.FieldType.int)) ∈ lw_all := lw_g (lw_at lw_m8 239 rfl) rfl
theorem q2030 : (Jvm.Cond.methodLink "MirrorDoorsModel" (201 : Nat) ({ cls := "MirrorDoorsModel", name := "bad", desc := "(IIII)Z" } : Jvm.MethodName)) ∈ lw_all := lw_g (lw_at lw_m9 0 rfl) rfl
theorem q2031 : (Jvm.Cond.privateMethod ({ cls := "MirrorDoorsModel", name := "bad", desc := "(IIII)Z" } : Jvm.MethodName)) ∈ lw_tbl := lw_at lw_m9 1 rfl
theorem q2032 : (Jvm.Cond.instanceMethod ({ cls := "MirrorDoorsModel", name := "bad", desc := "(IIII)Z" } : Jvm.MethodName)) ∈ lw_all := lw_g (lw_at lw_m9 2 rfl) rfl
theorem q2033 : (Jvm.Cond.code ({ cls := "MirrorDoorsModel", name := "bad", desc := "(IIII)Z" } : Jvm.MethodName) prog_15_method_40_code (5 : Nat) (Option.some Jvm.ClassFile.FieldType.boolean)) ∈ lw_all := lw_g (lw_at lw_m9 3 rfl) rfl
theorem q2034 : (Jvm.Cond.methodLink "MirrorDoorsModel" (205 : Nat) ({ cls := "MirrorDoorsModel", name := "numberOf", desc := "(II)I" } : Jvm.MethodName)) ∈ lw_all := lw_g (lw_at lw_m9 4 rfl) rfl
theorem q2035 : (Jvm.Cond.privateMethod ({ cls := "MirrorDoorsModel", name := "numberOf", desc := "(II)I" } : Jvm.MethodName)) ∈ lw_tbl := lw_at lw_m9 5 rfl
theorem q2036 : (Jvm.Cond.instanceMethod ({ cls := "MirrorDoorsModel", name := "numberOf", desc := "(II)I" } : Jvm.MethodName)) ∈ lw_all := lw_g (lw_at lw_m9 6 rfl) rfl
theorem q2037 : (Jvm.Cond.code ({ cls := "MirrorDoorsModel", name := "numberOf", desc := "(II)I" } : Jvm.MethodName) prog_15_method_17_code (5 : Nat) (Option.some Jvm.ClassFile.FieldType.int)) ∈ lw_all := lw_g (lw_at lw_m9 7 rfl) rfl
theorem q2039 : (Jvm.Cond.instanceMethod ({ cls := "MirrorDoorsModel", name := "putDoor", desc := "(III)I" } : Jvm.MethodName)) ∈ lw_all := lw_g (lw_at lw_m9 9 rfl) rfl
theorem q2040 : (Jvm.Cond.selects "MirrorDoorsModel" ({ cls := "MirrorDoorsModel", name := "putDoor", desc := "(III)I" } : Jvm.MethodName) ({ cls := "MirrorDoorsModel", name := "putDoor", desc := "(III)I" } : Jvm.MethodName)) ∈ lw_all := lw_g (lw_at lw_m9 10 rfl) rfl
theorem q2041 : (Jvm.Cond.code ({ cls := "MirrorDoorsModel", name := "putDoor", desc := "(III)I" } : Jvm.MethodName) prog_15_method_46_code (5 : Nat) (Option.some Jvm.ClassFile.FieldType.int)) ∈ lw_all := lw_g (lw_at lw_m9 11 rfl) rfl
theorem q2043 : (Jvm.Cond.instanceMethod ({ cls := "MirrorDoorsModel", name := "putGate", desc := "(III)I" } : Jvm.MethodName)) ∈ lw_all := lw_g (lw_at lw_m9 13 rfl) rfl
theorem q2044 : (Jvm.Cond.selects "MirrorDoorsModel" ({ cls := "MirrorDoorsModel", name := "putGate", desc := "(III)I" } : Jvm.MethodName) ({ cls := "MirrorDoorsModel", name := "putGate", desc := "(III)I" } : Jvm.MethodName)) ∈ lw_all := lw_g (lw_at lw_m9 14 rfl) rfl
theorem q2045 : (Jvm.Cond.code ({ cls := "MirrorDoorsModel", name := "putGate", desc := "(III)I" } : Jvm.MethodName) prog_15_method_47_code (5 : Nat) (Option.some Jvm.ClassFile.FieldType.int)) ∈ lw_all := lw_g (lw_at lw_m9 15 rfl) rfl
theorem q2047 : (Jvm.Cond.instanceMethod ({ cls := "MirrorDoorsModel", name := "putPortals", desc := "(IIII)I" } : Jvm.MethodName)) ∈ lw_all := lw_g (lw_at lw_m9 17 rfl) rfl
theorem q2048 : (Jvm.Cond.selects "MirrorDoorsModel" ({ cls := "MirrorDoorsModel", name := "putPortals", desc := "(IIII)I" } : Jvm.MethodName) ({ cls := "MirrorDoorsModel", name := "putPortals", desc := "(IIII)I" } : Jvm.MethodName)) ∈ lw_all := lw_g (lw_at lw_m9 18 rfl) rfl
theorem q2049 : (Jvm.Cond.code ({ cls := "MirrorDoorsModel", name := "putPortals", desc := "(IIII)I" } : Jvm.MethodName) prog_15_method_49_code (6 : Nat) (Option.some Jvm.ClassFile.FieldType.int)) ∈ lw_all := lw_g (lw_at lw_m9 19 rfl) rfl
theorem q2050 : (Jvm.Cond.methodLink "MirrorDoorsModel" (208 : Nat) ({ cls := "MirrorDoorsModel", name := "layPair", desc := "(IIII)V" } : Jvm.MethodName)) ∈ lw_all := lw_g (lw_at lw_m9 20 rfl) rfl
theorem q2051 : (Jvm.Cond.privateMethod ({ cls := "MirrorDoorsModel", name := "layPair", desc := "(IIII)V" } : Jvm.MethodName)) ∈ lw_tbl := lw_at lw_m9 21 rfl
theorem q2052 : (Jvm.Cond.instanceMethod ({ cls := "MirrorDoorsModel", name := "layPair", desc := "(IIII)V" } : Jvm.MethodName)) ∈ lw_all := lw_g (lw_at lw_m9 22 rfl) rfl
theorem q2053 : (Jvm.Cond.code ({ cls := "MirrorDoorsModel", name := "layPair", desc := "(IIII)V" } : Jvm.MethodName) prog_15_method_48_code (5 : Nat) (Option.none : Option Jvm.ClassFile.FieldType)) ∈ lw_all := lw_g (lw_at lw_m9 23 rfl) rfl
theorem q2055 : (Jvm.Cond.instanceMethod ({ cls := "MirrorDoorsModel", name := "clear", desc := "(II)I" } : Jvm.MethodName)) ∈ lw_all := lw_g (lw_at lw_m9 25 rfl) rfl
theorem q2056 : (Jvm.Cond.selects "MirrorDoorsModel" ({ cls := "MirrorDoorsModel", name := "clear", desc := "(II)I" } : Jvm.MethodName) ({ cls := "MirrorDoorsModel", name := "clear", desc := "(II)I" } : Jvm.MethodName)) ∈ lw_all := lw_g (lw_at lw_m9 26 rfl) rfl
theorem q2057 : (Jvm.Cond.code ({ cls := "MirrorDoorsModel", name := "clear", desc := "(II)I" } : Jvm.MethodName) prog_15_method_50_code (5 : Nat) (Option.some Jvm.ClassFile.FieldType.int)) ∈ lw_all := lw_g (lw_at lw_m9 27 rfl) rfl
theorem q2059 : (Jvm.Cond.instanceMethod ({ cls := "MirrorDoorsModel", name := "setLamp", desc := "(III)I" } : Jvm.MethodName)) ∈ lw_all := lw_g (lw_at lw_m9 29 rfl) rfl
theorem q2060 : (Jvm.Cond.selects "MirrorDoorsModel" ({ cls := "MirrorDoorsModel", name := "setLamp", desc := "(III)I" } : Jvm.MethodName) ({ cls := "MirrorDoorsModel", name := "setLamp", desc := "(III)I" } : Jvm.MethodName)) ∈ lw_all := lw_g (lw_at lw_m9 30 rfl) rfl
theorem q2061 : (Jvm.Cond.code ({ cls := "MirrorDoorsModel", name := "setLamp", desc := "(III)I" } : Jvm.MethodName) prog_15_method_51_code (6 : Nat) (Option.some Jvm.ClassFile.FieldType.int)) ∈ lw_all := lw_g (lw_at lw_m9 31 rfl) rfl
theorem q2063 : (Jvm.Cond.instanceMethod ({ cls := "MirrorDoorsModel", name := "set", desc := "(ZI)I" } : Jvm.MethodName)) ∈ lw_all := lw_g (lw_at lw_m9 33 rfl) rfl
theorem q2064 : (Jvm.Cond.selects "MirrorDoorsModel" ({ cls := "MirrorDoorsModel", name := "set", desc := "(ZI)I" } : Jvm.MethodName) ({ cls := "MirrorDoorsModel", name := "set", desc := "(ZI)I" } : Jvm.MethodName)) ∈ lw_all := lw_g (lw_at lw_m9 34 rfl) rfl
theorem q2065 : (Jvm.Cond.code ({ cls := "MirrorDoorsModel", name := "set", desc := "(ZI)I" } : Jvm.MethodName) prog_15_method_52_code (5 : Nat) (Option.some Jvm.ClassFile.FieldType.int)) ∈ lw_all := lw_g (lw_at lw_m9 35 rfl) rfl
theorem q2067 : (Jvm.Cond.instanceMethod ({ cls := "MirrorDoorsModel", name := "turn", desc := "(II)I" } : Jvm.MethodName)) ∈ lw_all := lw_g (lw_at lw_m9 37 rfl) rfl
theorem q2068 : (Jvm.Cond.selects "MirrorDoorsModel" ({ cls := "MirrorDoorsModel", name := "turn", desc := "(II)I" } : Jvm.MethodName) ({ cls := "MirrorDoorsModel", name := "turn", desc := "(II)I" } : Jvm.MethodName)) ∈ lw_all := lw_g (lw_at lw_m9 38 rfl) rfl
theorem q2069 : (Jvm.Cond.code ({ cls := "MirrorDoorsModel", name := "turn", desc := "(II)I" } : Jvm.MethodName) prog_15_method_53_code (4 : Nat) (Option.some Jvm.ClassFile.FieldType.int)) ∈ lw_all := lw_g (lw_at lw_m9 39 rfl) rfl
theorem q2070 : (Jvm.Cond.methodLink "MirrorDoorsModel" (184 : Nat) ({ cls := "MirrorDoorsModel", name := "noTurn", desc := "(I)I" } : Jvm.MethodName)) ∈ lw_all := lw_g (lw_at lw_m9 40 rfl) rfl
theorem q2071 : (Jvm.Cond.privateMethod ({ cls := "MirrorDoorsModel", name := "noTurn", desc := "(I)I" } : Jvm.MethodName)) ∈ lw_tbl := lw_at lw_m9 41 rfl
theorem q2072 : (Jvm.Cond.instanceMethod ({ cls := "MirrorDoorsModel", name := "noTurn", desc := "(I)I" } : Jvm.MethodName)) ∈ lw_all := lw_g (lw_at lw_m9 42 rfl) rfl
theorem q2073 : (Jvm.Cond.code ({ cls := "MirrorDoorsModel", name := "noTurn", desc := "(I)I" } : Jvm.MethodName) prog_15_method_37_code (2 : Nat) (Option.some Jvm.ClassFile.FieldType.int)) ∈ lw_all := lw_g (lw_at lw_m9 43 rfl) rfl
theorem q2074 : (Jvm.Cond.methodLink "MirrorDoorsModel" (180 : Nat) ({ cls := "MirrorDoorsModel", name := "isOver", desc := "()Z" } : Jvm.MethodName)) ∈ lw_all := lw_g (lw_at lw_m9 44 rfl) rfl
theorem q2075 : (Jvm.Cond.privateMethod ({ cls := "MirrorDoorsModel", name := "isOver", desc := "()Z" } : Jvm.MethodName)) ∈ lw_tbl := lw_at lw_m9 45 rfl
theorem q2076 : (Jvm.Cond.instanceMethod ({ cls := "MirrorDoorsModel", name := "isOver", desc := "()Z" } : Jvm.MethodName)) ∈ lw_all := lw_g (lw_at lw_m9 46 rfl) rfl
theorem q2077 : (Jvm.Cond.code ({ cls := "MirrorDoorsModel", name := "isOver", desc := "()Z" } : Jvm.MethodName) prog_15_method_35_code (1 : Nat) (Option.some Jvm.ClassFile.FieldType.boolean)) ∈ lw_all := lw_g (lw_at lw_m9 47 rfl) rfl
theorem q2078 : (Jvm.Cond.methodLink "MirrorDoorsModel" (177 : Nat) ({ cls := "MirrorDoorsModel", name := "hasAll", desc := "(I)Z" } : Jvm.MethodName)) ∈ lw_all := lw_g (lw_at lw_m9 48 rfl) rfl
theorem q2079 : (Jvm.Cond.privateMethod ({ cls := "MirrorDoorsModel", name := "hasAll", desc := "(I)Z" } : Jvm.MethodName)) ∈ lw_tbl := lw_at lw_m9 49 rfl
theorem q2080 : (Jvm.Cond.instanceMethod ({ cls := "MirrorDoorsModel", name := "hasAll", desc := "(I)Z" } : Jvm.MethodName)) ∈ lw_all := lw_g (lw_at lw_m9 50 rfl) rfl
theorem q2081 : (Jvm.Cond.code ({ cls := "MirrorDoorsModel", name := "hasAll", desc := "(I)Z" } : Jvm.MethodName) prog_15_method_34_code (2 : Nat) (Option.some Jvm.ClassFile.FieldType.boolean)) ∈ lw_all := lw_g (lw_at lw_m9 51 rfl) rfl
theorem q2082 : (Jvm.Cond.methodLink "MirrorDoorsModel" (170 : Nat) ({ cls := "MirrorDoorsModel", name := "doorsOf", desc := "(IZ)I" } : Jvm.MethodName)) ∈ lw_all := lw_g (lw_at lw_m9 52 rfl) rfl
theorem q2083 : (Jvm.Cond.privateMethod ({ cls := "MirrorDoorsModel", name := "doorsOf", desc := "(IZ)I" } : Jvm.MethodName)) ∈ lw_tbl := lw_at lw_m9 53 rfl
theorem q2084 : (Jvm.Cond.instanceMethod ({ cls := "MirrorDoorsModel", name := "doorsOf", desc := "(IZ)I" } : Jvm.MethodName)) ∈ lw_all := lw_g (lw_at lw_m9 54 rfl) rfl
theorem q2085 : (Jvm.Cond.code ({ cls := "MirrorDoorsModel", name := "doorsOf", desc := "(IZ)I" } : Jvm.MethodName) prog_15_method_32_code (5 : Nat) (Option.some Jvm.ClassFile.FieldType.int)) ∈ lw_all := lw_g (lw_at lw_m9 55 rfl) rfl
theorem q2086 : (Jvm.Cond.methodLink "MirrorDoorsModel" (174 : Nat) ({ cls := "MirrorDoorsModel", name := "points", desc := "(I)I" } : Jvm.MethodName)) ∈ lw_all := lw_g (lw_at lw_m9 56 rfl) rfl
theorem q2087 : (Jvm.Cond.privateMethod ({ cls := "MirrorDoorsModel", name := "points", desc := "(I)I" } : Jvm.MethodName)) ∈ lw_tbl := lw_at lw_m9 57 rfl
theorem q2088 : (Jvm.Cond.instanceMethod ({ cls := "MirrorDoorsModel", name := "points", desc := "(I)I" } : Jvm.MethodName)) ∈ lw_all := lw_g (lw_at lw_m9 58 rfl) rfl
theorem q2089 : (Jvm.Cond.code ({ cls := "MirrorDoorsModel", name := "points", desc := "(I)I" } : Jvm.MethodName) prog_15_method_33_code (2 : Nat) (Option.some Jvm.ClassFile.FieldType.int)) ∈ lw_all := lw_g (lw_at lw_m9 59 rfl) rfl
theorem q2090 : (Jvm.Cond.methodLink "MirrorDoorsModel" (212 : Nat) ({ cls := "MirrorDoorsModel", name := "move", desc := "(I)I" } : Jvm.MethodName)) ∈ lw_all := lw_g (lw_at lw_m9 60 rfl) rfl
theorem q2091 : (Jvm.Cond.privateMethod ({ cls := "MirrorDoorsModel", name := "move", desc := "(I)I" } : Jvm.MethodName)) ∈ lw_tbl := lw_at lw_m9 61 rfl
theorem q2092 : (Jvm.Cond.instanceMethod ({ cls := "MirrorDoorsModel", name := "move", desc := "(I)I" } : Jvm.MethodName)) ∈ lw_all := lw_g (lw_at lw_m9 62 rfl) rfl
theorem q2093 : (Jvm.Cond.code ({ cls := "MirrorDoorsModel", name := "move", desc := "(I)I" } : Jvm.MethodName) prog_15_method_39_code (3 : Nat) (Option.some Jvm.ClassFile.FieldType.int)) ∈ lw_all := lw_g (lw_at lw_m9 63 rfl) rfl
theorem q2095 : (Jvm.Cond.instanceMethod ({ cls := "MirrorDoorsModel", name := "pass", desc := "()I" } : Jvm.MethodName)) ∈ lw_all := lw_g (lw_at lw_m9 65 rfl) rfl
theorem q2096 : (Jvm.Cond.selects "MirrorDoorsModel" ({ cls := "MirrorDoorsModel", name := "pass", desc := "()I" } : Jvm.MethodName) ({ cls := "MirrorDoorsModel", name := "pass", desc := "()I" } : Jvm.MethodName)) ∈ lw_all := lw_g (lw_at lw_m9 66 rfl) rfl
theorem q2097 : (Jvm.Cond.code ({ cls := "MirrorDoorsModel", name := "pass", desc := "()I" } : Jvm.MethodName) prog_15_method_54_code (1 : Nat) (Option.some Jvm.ClassFile.FieldType.int)) ∈ lw_all := lw_g (lw_at lw_m9 67 rfl) rfl
theorem q2098 : (Jvm.Cond.methodLink "MirrorDoorsModel" (215 : Nat) ({ cls := "MirrorDoorsModel", name := "canTurn", desc := "()Z" } : Jvm.MethodName)) ∈ lw_all := lw_g (lw_at lw_m9 68 rfl) rfl
theorem q2099 : (Jvm.Cond.privateMethod ({ cls := "MirrorDoorsModel", name := "canTurn", desc := "()Z" } : Jvm.MethodName)) ∈ lw_tbl := lw_at lw_m9 69 rfl
theorem q2100 : (Jvm.Cond.instanceMethod ({ cls := "MirrorDoorsModel", name := "canTurn", desc := "()Z" } : Jvm.MethodName)) ∈ lw_all := lw_g (lw_at lw_m9 70 rfl) rfl
theorem q2101 : (Jvm.Cond.code ({ cls := "MirrorDoorsModel", name := "canTurn", desc := "()Z" } : Jvm.MethodName) prog_15_method_38_code (2 : Nat) (Option.some Jvm.ClassFile.FieldType.boolean)) ∈ lw_all := lw_g (lw_at lw_m9 71 rfl) rfl
theorem q2103 : (Jvm.Cond.instanceMethod ({ cls := "MirrorDoorsModel", name := "undo", desc := "()I" } : Jvm.MethodName)) ∈ lw_all := lw_g (lw_at lw_m9 73 rfl) rfl
theorem q2104 : (Jvm.Cond.selects "MirrorDoorsModel" ({ cls := "MirrorDoorsModel", name := "undo", desc := "()I" } : Jvm.MethodName) ({ cls := "MirrorDoorsModel", name := "undo", desc := "()I" } : Jvm.MethodName)) ∈ lw_all := lw_g (lw_at lw_m9 74 rfl) rfl
theorem q2105 : (Jvm.Cond.code ({ cls := "MirrorDoorsModel", name := "undo", desc := "()I" } : Jvm.MethodName) prog_15_method_55_code (1 : Nat) (Option.some Jvm.ClassFile.FieldType.int)) ∈ lw_all := lw_g (lw_at lw_m9 75 rfl) rfl
theorem q2107 : (Jvm.Cond.instanceMethod ({ cls := "MirrorDoorsModel", name := "keep", desc := "(I)I" } : Jvm.MethodName)) ∈ lw_all := lw_g (lw_at lw_m9 77 rfl) rfl
theorem q2108 : (Jvm.Cond.selects "MirrorDoorsModel" ({ cls := "MirrorDoorsModel", name := "keep", desc := "(I)I" } : Jvm.MethodName) ({ cls := "MirrorDoorsModel", name := "keep", desc := "(I)I" } : Jvm.MethodName)) ∈ lw_all := lw_g (lw_at lw_m9 78 rfl) rfl
theorem q2109 : (Jvm.Cond.code ({ cls := "MirrorDoorsModel", name := "keep", desc := "(I)I" } : Jvm.MethodName) prog_15_method_56_code (2 : Nat) (Option.some Jvm.ClassFile.FieldType.int)) ∈ lw_all := lw_g (lw_at lw_m9 79 rfl) rfl
theorem q2111 : (Jvm.Cond.instanceMethod ({ cls := "MirrorDoorsModel", name := "restore", desc := "(I)I" } : Jvm.MethodName)) ∈ lw_all := lw_g (lw_at lw_m9 81 rfl) rfl
theorem q2112 : (Jvm.Cond.selects "MirrorDoorsModel" ({ cls := "MirrorDoorsModel", name := "restore", desc := "(I)I" } : Jvm.MethodName) ({ cls := "MirrorDoorsModel", name := "restore", desc := "(I)I" } : Jvm.MethodName)) ∈ lw_all := lw_g (lw_at lw_m9 82 rfl) rfl
theorem q2113 : (Jvm.Cond.code ({ cls := "MirrorDoorsModel", name := "restore", desc := "(I)I" } : Jvm.MethodName) prog_15_method_57_code (2 : Nat) (Option.some Jvm.ClassFile.FieldType.int)) ∈ lw_all := lw_g (lw_at lw_m9 83 rfl) rfl
theorem q2115 : (Jvm.Cond.instanceMethod ({ cls := "MirrorDoorsModel", name := "load", desc := "()I" } : Jvm.MethodName)) ∈ lw_all := lw_g (lw_at lw_m9 85 rfl) rfl
theorem q2116 : (Jvm.Cond.selects "MirrorDoorsModel" ({ cls := "MirrorDoorsModel", name := "load", desc := "()I" } : Jvm.MethodName) ({ cls := "MirrorDoorsModel", name := "load", desc := "()I" } : Jvm.MethodName)) ∈ lw_all := lw_g (lw_at lw_m9 86 rfl) rfl
theorem q2117 : (Jvm.Cond.code ({ cls := "MirrorDoorsModel", name := "load", desc := "()I" } : Jvm.MethodName) prog_15_method_67_code (6 : Nat) (Option.some Jvm.ClassFile.FieldType.int)) ∈ lw_all := lw_g (lw_at lw_m9 87 rfl) rfl
theorem q2118 : (Jvm.Cond.methodLink "MirrorDoorsModel" (254 : Nat) ({ cls := "MirrorDoorsModel", name := "next", desc := "()V" } : Jvm.MethodName)) ∈ lw_all := lw_g (lw_at lw_m9 88 rfl) rfl
theorem q2119 : (Jvm.Cond.privateMethod ({ cls := "MirrorDoorsModel", name := "next", desc := "()V" } : Jvm.MethodName)) ∈ lw_tbl := lw_at lw_m9 89 rfl
theorem q2120 : (Jvm.Cond.instanceMethod ({ cls := "MirrorDoorsModel", name := "next", desc := "()V" } : Jvm.MethodName)) ∈ lw_all := lw_g (lw_at lw_m9 90 rfl) rfl
theorem q2121 : (Jvm.Cond.code ({ cls := "MirrorDoorsModel", name := "next", desc := "()V" } : Jvm.MethodName) prog_15_method_60_code (1 : Nat) (Option.none : Option Jvm.ClassFile.FieldType)) ∈ lw_all := lw_g (lw_at lw_m9 91 rfl) rfl
theorem q2122 : (Jvm.Cond.methodLink "MirrorDoorsModel" (230 : Nat) ({ cls := "MirrorDoorsModel", name := "letterAt", desc := "(I)Z" } : Jvm.MethodName)) ∈ lw_all := lw_g (lw_at lw_m9 92 rfl) rfl
theorem q2123 : (Jvm.Cond.privateMethod ({ cls := "MirrorDoorsModel", name := "letterAt", desc := "(I)Z" } : Jvm.MethodName)) ∈ lw_tbl := lw_at lw_m9 93 rfl
theorem q2124 : (Jvm.Cond.instanceMethod ({ cls := "MirrorDoorsModel", name := "letterAt", desc := "(I)Z" } : Jvm.MethodName)) ∈ lw_all := lw_g (lw_at lw_m9 94 rfl) rfl
theorem q2125 : (Jvm.Cond.code ({ cls := "MirrorDoorsModel", name := "letterAt", desc := "(I)Z" } : Jvm.MethodName) prog_15_method_58_code (2 : Nat) (Option.some Jvm.ClassFile.FieldType.boolean)) ∈ lw_all := lw_g (lw_at lw_m9 95 rfl) rfl
theorem q2126 : (Jvm.Cond.methodLink "MirrorDoorsModel" (233 : Nat) ({ cls := "MirrorDoorsModel", name := "digitAt", desc := "(I)Z" } : Jvm.MethodName)) ∈ lw_all := lw_g (lw_at lw_m9 96 rfl) rfl
theorem q2127 : (Jvm.Cond.privateMethod ({ cls := "MirrorDoorsModel", name := "digitAt", desc := "(I)Z" } : Jvm.MethodName)) ∈ lw_tbl := lw_at lw_m9 97 rfl
theorem q2128 : (Jvm.Cond.instanceMethod ({ cls := "MirrorDoorsModel", name := "digitAt", desc := "(I)Z" } : Jvm.MethodName)) ∈ lw_all := lw_g (lw_at lw_m9 98 rfl) rfl
theorem q2129 : (Jvm.Cond.code ({ cls := "MirrorDoorsModel", name := "digitAt", desc := "(I)Z" } : Jvm.MethodName) prog_15_method_59_code (2 : Nat) (Option.some Jvm.ClassFile.FieldType.boolean)) ∈ lw_all := lw_g (lw_at lw_m9 99 rfl) rfl
theorem q2130 : (Jvm.Cond.stringRef "MirrorDoorsModel" (260 : Nat) "board") ∈ lw_tbl := lw_at lw_m9 100 rfl
theorem q2131 : (Jvm.Cond.methodLink "MirrorDoorsModel" (262 : Nat) ({ cls := "MirrorDoorsModel", name := "isWord", desc := "(Ljava/lang/String;)Z" } : Jvm.MethodName)) ∈ lw_all := lw_g (lw_at lw_m9 101 rfl) rfl
theorem q2132 : (Jvm.Cond.privateMethod ({ cls := "MirrorDoorsModel", name := "isWord", desc := "(Ljava/lang/String;)Z" } : Jvm.MethodName)) ∈ lw_tbl := lw_at lw_m9 102 rfl
theorem q2133 : (Jvm.Cond.instanceMethod ({ cls := "MirrorDoorsModel", name := "isWord", desc := "(Ljava/lang/String;)Z" } : Jvm.MethodName)) ∈ lw_all := lw_g (lw_at lw_m9 103 rfl) rfl
theorem q2134 : (Jvm.Cond.code ({ cls := "MirrorDoorsModel", name := "isWord", desc := "(Ljava/lang/String;)Z" } : Jvm.MethodName) prog_15_method_61_code (4 : Nat) (Option.some Jvm.ClassFile.FieldType.boolean)) ∈ lw_all := lw_g (lw_at lw_m9 104 rfl) rfl
theorem q2135 : (Jvm.Cond.methodLink "MirrorDoorsModel" (239 : Nat) ({ cls := "java/lang/String", name := "length", desc := "()I" } : Jvm.MethodName)) ∈ lw_all := lw_g (lw_at lw_m9 105 rfl) rfl
theorem q2136 : (Jvm.Cond.methodLink "MirrorDoorsModel" (244 : Nat) ({ cls := "java/lang/String", name := "charAt", desc := "(I)C" } : Jvm.MethodName)) ∈ lw_all := lw_g (lw_at lw_m9 106 rfl) rfl
theorem q2137 : (Jvm.Cond.methodLink "MirrorDoorsModel" (266 : Nat) ({ cls := "MirrorDoorsModel", name := "pass", desc := "(Z)V" } : Jvm.MethodName)) ∈ lw_all := lw_g (lw_at lw_m9 107 rfl) rfl
theorem q2138 : (Jvm.Cond.privateMethod ({ cls := "MirrorDoorsModel", name := "pass", desc := "(Z)V" } : Jvm.MethodName)) ∈ lw_tbl := lw_at lw_m9 108 rfl
theorem q2139 : (Jvm.Cond.instanceMethod ({ cls := "MirrorDoorsModel", name := "pass", desc := "(Z)V" } : Jvm.MethodName)) ∈ lw_all := lw_g (lw_at lw_m9 109 rfl) rfl
theorem q2140 : (Jvm.Cond.code ({ cls := "MirrorDoorsModel", name := "pass", desc := "(Z)V" } : Jvm.MethodName) prog_15_method_63_code (2 : Nat) (Option.none : Option Jvm.ClassFile.FieldType)) ∈ lw_all := lw_g (lw_at lw_m9 110 rfl) rfl
theorem q2141 : (Jvm.Cond.methodLink "MirrorDoorsModel" (251 : Nat) ({ cls := "MirrorDoorsModel", name := "wrong", desc := "(I)V" } : Jvm.MethodName)) ∈ lw_all := lw_g (lw_at lw_m9 111 rfl) rfl
theorem q2142 : (Jvm.Cond.privateMethod ({ cls := "MirrorDoorsModel", name := "wrong", desc := "(I)V" } : Jvm.MethodName)) ∈ lw_tbl := lw_at lw_m9 112 rfl
theorem q2143 : (Jvm.Cond.instanceMethod ({ cls := "MirrorDoorsModel", name := "wrong", desc := "(I)V" } : Jvm.MethodName)) ∈ lw_all := lw_g (lw_at lw_m9 113 rfl) rfl
theorem q2144 : (Jvm.Cond.code ({ cls := "MirrorDoorsModel", name := "wrong", desc := "(I)V" } : Jvm.MethodName) prog_15_method_62_code (2 : Nat) (Option.none : Option Jvm.ClassFile.FieldType)) ∈ lw_all := lw_g (lw_at lw_m9 114 rfl) rfl
theorem q2145 : (Jvm.Cond.methodLink "MirrorDoorsModel" (270 : Nat) ({ cls := "MirrorDoorsModel", name := "number", desc := "(II)I" } : Jvm.MethodName)) ∈ lw_all := lw_g (lw_at lw_m9 115 rfl) rfl
theorem q2146 : (Jvm.Cond.privateMethod ({ cls := "MirrorDoorsModel", name := "number", desc := "(II)I" } : Jvm.MethodName)) ∈ lw_tbl := lw_at lw_m9 116 rfl
theorem q2147 : (Jvm.Cond.instanceMethod ({ cls := "MirrorDoorsModel", name := "number", desc := "(II)I" } : Jvm.MethodName)) ∈ lw_all := lw_g (lw_at lw_m9 117 rfl) rfl
theorem q2148 : (Jvm.Cond.code ({ cls := "MirrorDoorsModel", name := "number", desc := "(II)I" } : Jvm.MethodName) prog_15_method_65_code (4 : Nat) (Option.some Jvm.ClassFile.FieldType.int)) ∈ lw_all := lw_g (lw_at lw_m9 118 rfl) rfl
theorem q2149 : (Jvm.Cond.methodLink "MirrorDoorsModel" (257 : Nat) ({ cls := "MirrorDoorsModel", name := "look", desc := "(II)V" } : Jvm.MethodName)) ∈ lw_all := lw_g (lw_at lw_m9 119 rfl) rfl
theorem q2150 : (Jvm.Cond.privateMethod ({ cls := "MirrorDoorsModel", name := "look", desc := "(II)V" } : Jvm.MethodName)) ∈ lw_tbl := lw_at lw_m9 120 rfl
theorem q2151 : (Jvm.Cond.instanceMethod ({ cls := "MirrorDoorsModel", name := "look", desc := "(II)V" } : Jvm.MethodName)) ∈ lw_all := lw_g (lw_at lw_m9 121 rfl) rfl
theorem q2152 : (Jvm.Cond.code ({ cls := "MirrorDoorsModel", name := "look", desc := "(II)V" } : Jvm.MethodName) prog_15_method_64_code (3 : Nat) (Option.none : Option Jvm.ClassFile.FieldType)) ∈ lw_all := lw_g (lw_at lw_m9 122 rfl) rfl
theorem q2153 : (Jvm.Cond.stringRef "MirrorDoorsModel" (273 : Nat) "lamp") ∈ lw_tbl := lw_at lw_m9 123 rfl
theorem q2154 : (Jvm.Cond.methodLink "MirrorDoorsModel" (274 : Nat) ({ cls := "MirrorDoorsModel", name := "semicolon", desc := "()V" } : Jvm.MethodName)) ∈ lw_all := lw_g (lw_at lw_m9 124 rfl) rfl
theorem q2155 : (Jvm.Cond.privateMethod ({ cls := "MirrorDoorsModel", name := "semicolon", desc := "()V" } : Jvm.MethodName)) ∈ lw_tbl := lw_at lw_m9 125 rfl
theorem q2156 : (Jvm.Cond.instanceMethod ({ cls := "MirrorDoorsModel", name := "semicolon", desc := "()V" } : Jvm.MethodName)) ∈ lw_all := lw_g (lw_at lw_m9 126 rfl) rfl
theorem q2157 : (Jvm.Cond.code ({ cls := "MirrorDoorsModel", name := "semicolon", desc := "()V" } : Jvm.MethodName) prog_15_method_66_code (1 : Nat) (Option.none : Option Jvm.ClassFile.FieldType)) ∈ lw_all := lw_g (lw_at lw_m9 127 rfl) rfl
theorem q2158 : (Jvm.Cond.methodLink "MirrorDoorsModel" (277 : Nat) ({ cls := "MirrorDoorsModel", name := "statement", desc := "()V" } : Jvm.MethodName)) ∈ lw_all := lw_g (lw_at lw_m9 128 rfl) rfl
theorem q2159 : (Jvm.Cond.privateMethod ({ cls := "MirrorDoorsModel", name := "statement", desc := "()V" } : Jvm.MethodName)) ∈ lw_tbl := lw_at lw_m9 129 rfl
theorem q2160 : (Jvm.Cond.instanceMethod ({ cls := "MirrorDoorsModel", name := "statement", desc := "()V" } : Jvm.MethodName)) ∈ lw_all := lw_g (lw_at lw_m9 130 rfl) rfl
theorem q2161 : (Jvm.Cond.code ({ cls := "MirrorDoorsModel", name := "statement", desc := "()V" } : Jvm.MethodName) prog_15_method_68_code (3 : Nat) (Option.none : Option Jvm.ClassFile.FieldType)) ∈ lw_all := lw_g (lw_at lw_m9 131 rfl) rfl
theorem q2162 : (Jvm.Cond.stringRef "MirrorDoorsModel" (280 : Nat) "turn") ∈ lw_tbl := lw_at lw_m9 132 rfl
theorem q2163 : (Jvm.Cond.methodLink "MirrorDoorsModel" (282 : Nat) ({ cls := "MirrorDoorsModel", name := "turnStatement", desc := "()V" } : Jvm.MethodName)) ∈ lw_all := lw_g (lw_at lw_m9 133 rfl) rfl
theorem q2164 : (Jvm.Cond.privateMethod ({ cls := "MirrorDoorsModel", name := "turnStatement", desc := "()V" } : Jvm.MethodName)) ∈ lw_tbl := lw_at lw_m9 134 rfl
theorem q2165 : (Jvm.Cond.instanceMethod ({ cls := "MirrorDoorsModel", name := "turnStatement", desc := "()V" } : Jvm.MethodName)) ∈ lw_all := lw_g (lw_at lw_m9 135 rfl) rfl
theorem q2166 : (Jvm.Cond.code ({ cls := "MirrorDoorsModel", name := "turnStatement", desc := "()V" } : Jvm.MethodName) prog_15_method_74_code (3 : Nat) (Option.none : Option Jvm.ClassFile.FieldType)) ∈ lw_all := lw_g (lw_at lw_m9 136 rfl) rfl
theorem q2167 : (Jvm.Cond.stringRef "MirrorDoorsModel" (285 : Nat) "wall") ∈ lw_tbl := lw_at lw_m9 137 rfl
theorem q2168 : (Jvm.Cond.methodLink "MirrorDoorsModel" (287 : Nat) ({ cls := "MirrorDoorsModel", name := "free", desc := "(I)I" } : Jvm.MethodName)) ∈ lw_all := lw_g (lw_at lw_m9 138 rfl) rfl
theorem q2169 : (Jvm.Cond.privateMethod ({ cls := "MirrorDoorsModel", name := "free", desc := "(I)I" } : Jvm.MethodName)) ∈ lw_tbl := lw_at lw_m9 139 rfl
theorem q2170 : (Jvm.Cond.instanceMethod ({ cls := "MirrorDoorsModel", name := "free", desc := "(I)I" } : Jvm.MethodName)) ∈ lw_all := lw_g (lw_at lw_m9 140 rfl) rfl
theorem q2171 : (Jvm.Cond.code ({ cls := "MirrorDoorsModel", name := "free", desc := "(I)I" } : Jvm.MethodName) prog_15_method_69_code (4 : Nat) (Option.some Jvm.ClassFile.FieldType.int)) ∈ lw_all := lw_g (lw_at lw_m9 141 rfl) rfl
theorem q2172 : (Jvm.Cond.methodLink "MirrorDoorsModel" (290 : Nat) ({ cls := "MirrorDoorsModel", name := "layAt", desc := "(IIII)V" } : Jvm.MethodName)) ∈ lw_all := lw_g (lw_at lw_m9 142 rfl) rfl
theorem q2173 : (Jvm.Cond.privateMethod ({ cls := "MirrorDoorsModel", name := "layAt", desc := "(IIII)V" } : Jvm.MethodName)) ∈ lw_tbl := lw_at lw_m9 143 rfl
theorem q2174 : (Jvm.Cond.instanceMethod ({ cls := "MirrorDoorsModel", name := "layAt", desc := "(IIII)V" } : Jvm.MethodName)) ∈ lw_all := lw_g (lw_at lw_m9 144 rfl) rfl
theorem q2175 : (Jvm.Cond.code ({ cls := "MirrorDoorsModel", name := "layAt", desc := "(IIII)V" } : Jvm.MethodName) prog_15_method_70_code (5 : Nat) (Option.none : Option Jvm.ClassFile.FieldType)) ∈ lw_all := lw_g (lw_at lw_m9 145 rfl) rfl
theorem q2176 : (Jvm.Cond.stringRef "MirrorDoorsModel" (293 : Nat) "mirror") ∈ lw_tbl := lw_at lw_m9 146 rfl
theorem q2177 : (Jvm.Cond.stringRef "MirrorDoorsModel" (295 : Nat) "half") ∈ lw_tbl := lw_at lw_m9 147 rfl
theorem q2178 : (Jvm.Cond.methodLink "MirrorDoorsModel" (297 : Nat) ({ cls := "MirrorDoorsModel", name := "mirrorStatement", desc := "()V" } : Jvm.MethodName)) ∈ lw_all := lw_g (lw_at lw_m9 148 rfl) rfl
theorem q2179 : (Jvm.Cond.privateMethod ({ cls := "MirrorDoorsModel", name := "mirrorStatement", desc := "()V" } : Jvm.MethodName)) ∈ lw_tbl := lw_at lw_m9 149 rfl
theorem q2180 : (Jvm.Cond.instanceMethod ({ cls := "MirrorDoorsModel", name := "mirrorStatement", desc := "()V" } : Jvm.MethodName)) ∈ lw_all := lw_g (lw_at lw_m9 150 rfl) rfl
theorem q2181 : (Jvm.Cond.code ({ cls := "MirrorDoorsModel", name := "mirrorStatement", desc := "()V" } : Jvm.MethodName) prog_15_method_71_code (5 : Nat) (Option.none : Option Jvm.ClassFile.FieldType)) ∈ lw_all := lw_g (lw_at lw_m9 151 rfl) rfl
theorem q2182 : (Jvm.Cond.stringRef "MirrorDoorsModel" (316 : Nat) "back") ∈ lw_tbl := lw_at lw_m9 152 rfl
theorem q2183 : (Jvm.Cond.stringRef "MirrorDoorsModel" (318 : Nat) "slash") ∈ lw_tbl := lw_at lw_m9 153 rfl
theorem q2184 : (Jvm.Cond.stringRef "MirrorDoorsModel" (320 : Nat) "of") ∈ lw_tbl := lw_at lw_m9 154 rfl
theorem q2185 : (Jvm.Cond.stringRef "MirrorDoorsModel" (300 : Nat) "door") ∈ lw_tbl := lw_at lw_m9 155 rfl
theorem q2186 : (Jvm.Cond.methodLink "MirrorDoorsModel" (302 : Nat) ({ cls := "MirrorDoorsModel", name := "doorStatement", desc := "()V" } : Jvm.MethodName)) ∈ lw_all := lw_g (lw_at lw_m9 156 rfl) rfl
theorem q2187 : (Jvm.Cond.privateMethod ({ cls := "MirrorDoorsModel", name := "doorStatement", desc := "()V" } : Jvm.MethodName)) ∈ lw_tbl := lw_at lw_m9 157 rfl
theorem q2188 : (Jvm.Cond.instanceMethod ({ cls := "MirrorDoorsModel", name := "doorStatement", desc := "()V" } : Jvm.MethodName)) ∈ lw_all := lw_g (lw_at lw_m9 158 rfl) rfl
theorem q2189 : (Jvm.Cond.code ({ cls := "MirrorDoorsModel", name := "doorStatement", desc := "()V" } : Jvm.MethodName) prog_15_method_72_code (3 : Nat) (Option.none : Option Jvm.ClassFile.FieldType)) ∈ lw_all := lw_g (lw_at lw_m9 159 rfl) rfl
theorem q2190 : (Jvm.Cond.stringRef "MirrorDoorsModel" (305 : Nat) "gate") ∈ lw_tbl := lw_at lw_m9 160 rfl
theorem q2191 : (Jvm.Cond.stringRef "MirrorDoorsModel" (307 : Nat) "portal") ∈ lw_tbl := lw_at lw_m9 161 rfl
theorem q2192 : (Jvm.Cond.methodLink "MirrorDoorsModel" (309 : Nat) ({ cls := "MirrorDoorsModel", name := "portalStatement", desc := "()V" } : Jvm.MethodName)) ∈ lw_all := lw_g (lw_at lw_m9 162 rfl) rfl
theorem q2193 : (Jvm.Cond.privateMethod ({ cls := "MirrorDoorsModel", name := "portalStatement", desc := "()V" } : Jvm.MethodName)) ∈ lw_tbl := lw_at lw_m9 163 rfl
theorem q2194 : (Jvm.Cond.instanceMethod ({ cls := "MirrorDoorsModel", name := "portalStatement", desc := "()V" } : Jvm.MethodName)) ∈ lw_all := lw_g (lw_at lw_m9 164 rfl) rfl
theorem q2195 : (Jvm.Cond.code ({ cls := "MirrorDoorsModel", name := "portalStatement", desc := "()V" } : Jvm.MethodName) prog_15_method_73_code (3 : Nat) (Option.none : Option Jvm.ClassFile.FieldType)) ∈ lw_all := lw_g (lw_at lw_m9 165 rfl) rfl
theorem q2196 : (Jvm.Cond.stringRef "MirrorDoorsModel" (312 : Nat) "lock") ∈ lw_tbl := lw_at lw_m9 166 rfl
theorem q2197 : (Jvm.Cond.stringRef "MirrorDoorsModel" (314 : Nat) "limit") ∈ lw_tbl := lw_at lw_m9 167 rfl
theorem q2199 : (Jvm.Cond.instanceMethod ({ cls := "MirrorDoorsModel", name := "append", desc := "(IIIII)I" } : Jvm.MethodName)) ∈ lw_all := lw_g (lw_at lw_m9 169 rfl) rfl
theorem q2200 : (Jvm.Cond.selects "MirrorDoorsModel" ({ cls := "MirrorDoorsModel", name := "append", desc := "(IIIII)I" } : Jvm.MethodName) ({ cls := "MirrorDoorsModel", name := "append", desc := "(IIIII)I" } : Jvm.MethodName)) ∈ lw_all := lw_g (lw_at lw_m9 170 rfl) rfl
theorem q2201 : (Jvm.Cond.code ({ cls := "MirrorDoorsModel", name := "append", desc := "(IIIII)I" } : Jvm.MethodName) prog_15_method_76_code (6 : Nat) (Option.some Jvm.ClassFile.FieldType.int)) ∈ lw_all := lw_g (lw_at lw_m9 171 rfl) rfl
theorem q2202 : (Jvm.Cond.methodLink "MirrorDoorsModel" (321 : Nat) ({ cls := "MirrorDoorsModel", name := "type", desc := "(I)V" } : Jvm.MethodName)) ∈ lw_all := lw_g (lw_at lw_m9 172 rfl) rfl
theorem q2203 : (Jvm.Cond.privateMethod ({ cls := "MirrorDoorsModel", name := "type", desc := "(I)V" } : Jvm.MethodName)) ∈ lw_tbl := lw_at lw_m9 173 rfl
theorem q2204 : (Jvm.Cond.instanceMethod ({ cls := "MirrorDoorsModel", name := "type", desc := "(I)V" } : Jvm.MethodName)) ∈ lw_all := lw_g (lw_at lw_m9 174 rfl) rfl
theorem q2205 : (Jvm.Cond.code ({ cls := "MirrorDoorsModel", name := "type", desc := "(I)V" } : Jvm.MethodName) prog_15_method_75_code (3 : Nat) (Option.none : Option Jvm.ClassFile.FieldType)) ∈ lw_all := lw_g (lw_at lw_m9 175 rfl) rfl
theorem q2207 : (Jvm.Cond.instanceMethod ({ cls := "MirrorDoorsModel", name := "truncate", desc := "(I)I" } : Jvm.MethodName)) ∈ lw_all := lw_g (lw_at lw_m9 177 rfl) rfl
theorem q2208 : (Jvm.Cond.selects "MirrorDoorsModel" ({ cls := "MirrorDoorsModel", name := "truncate", desc := "(I)I" } : Jvm.MethodName) ({ cls := "MirrorDoorsModel", name := "truncate", desc := "(I)I" } : Jvm.MethodName)) ∈ lw_all := lw_g (lw_at lw_m9 178 rfl) rfl
theorem q2209 : (Jvm.Cond.code ({ cls := "MirrorDoorsModel", name := "truncate", desc := "(I)I" } : Jvm.MethodName) prog_15_method_77_code (2 : Nat) (Option.some Jvm.ClassFile.FieldType.int)) ∈ lw_all := lw_g (lw_at lw_m9 179 rfl) rfl
theorem q2211 : (Jvm.Cond.instanceMethod ({ cls := "MirrorDoorsModel", name := "board", desc := "(I)I" } : Jvm.MethodName)) ∈ lw_all := lw_g (lw_at lw_m9 181 rfl) rfl
theorem q2212 : (Jvm.Cond.selects "MirrorDoorsModel" ({ cls := "MirrorDoorsModel", name := "board", desc := "(I)I" } : Jvm.MethodName) ({ cls := "MirrorDoorsModel", name := "board", desc := "(I)I" } : Jvm.MethodName)) ∈ lw_all := lw_g (lw_at lw_m9 182 rfl) rfl
theorem q2213 : (Jvm.Cond.code ({ cls := "MirrorDoorsModel", name := "board", desc := "(I)I" } : Jvm.MethodName) prog_15_method_78_code (2 : Nat) (Option.some Jvm.ClassFile.FieldType.int)) ∈ lw_all := lw_g (lw_at lw_m9 183 rfl) rfl
theorem q2214 : (Jvm.Cond.methodLink "MirrorDoorsModel" (324 : Nat) ({ cls := "MirrorDoorsModel", name := "winner", desc := "()I" } : Jvm.MethodName)) ∈ lw_all := lw_g (lw_at lw_m9 184 rfl) rfl
theorem q2215 : (Jvm.Cond.privateMethod ({ cls := "MirrorDoorsModel", name := "winner", desc := "()I" } : Jvm.MethodName)) ∈ lw_tbl := lw_at lw_m9 185 rfl
theorem q2216 : (Jvm.Cond.instanceMethod ({ cls := "MirrorDoorsModel", name := "winner", desc := "()I" } : Jvm.MethodName)) ∈ lw_all := lw_g (lw_at lw_m9 186 rfl) rfl
theorem q2217 : (Jvm.Cond.code ({ cls := "MirrorDoorsModel", name := "winner", desc := "()I" } : Jvm.MethodName) prog_15_method_36_code (1 : Nat) (Option.some Jvm.ClassFile.FieldType.int)) ∈ lw_all := lw_g (lw_at lw_m9 187 rfl) rfl
theorem q2219 : (Jvm.Cond.instanceMethod ({ cls := "MirrorDoorsModel", name := "cell", desc := "(III)I" } : Jvm.MethodName)) ∈ lw_all := lw_g (lw_at lw_m9 189 rfl) rfl
theorem q2220 : (Jvm.Cond.selects "MirrorDoorsModel" ({ cls := "MirrorDoorsModel", name := "cell", desc := "(III)I" } : Jvm.MethodName) ({ cls := "MirrorDoorsModel", name := "cell", desc := "(III)I" } : Jvm.MethodName)) ∈ lw_all := lw_g (lw_at lw_m9 190 rfl) rfl
theorem q2221 : (Jvm.Cond.code ({ cls := "MirrorDoorsModel", name := "cell", desc := "(III)I" } : Jvm.MethodName) prog_15_method_79_code (6 : Nat) (Option.some Jvm.ClassFile.FieldType.int)) ∈ lw_all := lw_g (lw_at lw_m9 191 rfl) rfl
theorem q2223 : (Jvm.Cond.instanceMethod ({ cls := "MirrorDoorsModel", name := "mirror", desc := "(II)I" } : Jvm.MethodName)) ∈ lw_all := lw_g (lw_at lw_m9 193 rfl) rfl
theorem q2224 : (Jvm.Cond.selects "MirrorDoorsModel" ({ cls := "MirrorDoorsModel", name := "mirror", desc := "(II)I" } : Jvm.MethodName) ({ cls := "MirrorDoorsModel", name := "mirror", desc := "(II)I" } : Jvm.MethodName)) ∈ lw_all := lw_g (lw_at lw_m9 194 rfl) rfl
theorem q2225 : (Jvm.Cond.code ({ cls := "MirrorDoorsModel", name := "mirror", desc := "(II)I" } : Jvm.MethodName) prog_15_method_80_code (4 : Nat) (Option.some Jvm.ClassFile.FieldType.int)) ∈ lw_all := lw_g (lw_at lw_m9 195 rfl) rfl
theorem q2226 : (Jvm.Cond.methodLink "MirrorDoorsModel" (327 : Nat) ({ cls := "MirrorDoorsModel", name := "ones", desc := "(I)I" } : Jvm.MethodName)) ∈ lw_all := lw_g (lw_at lw_m9 196 rfl) rfl
theorem q2227 : (Jvm.Cond.static ({ cls := "MirrorDoorsModel", name := "ones", desc := "(I)I" } : Jvm.MethodName)) ∈ lw_all := lw_g (lw_at lw_m9 197 rfl) rfl
theorem q2228 : (Jvm.Cond.code ({ cls := "MirrorDoorsModel", name := "ones", desc := "(I)I" } : Jvm.MethodName) prog_15_method_81_code (3 : Nat) (Option.some Jvm.ClassFile.FieldType.int)) ∈ lw_all := lw_g (lw_at lw_m9 198 rfl) rfl
theorem q2230 : (Jvm.Cond.instanceMethod ({ cls := "MirrorDoorsModel", name := "door", desc := "(II)I" } : Jvm.MethodName)) ∈ lw_all := lw_g (lw_at lw_m9 200 rfl) rfl
theorem q2231 : (Jvm.Cond.selects "MirrorDoorsModel" ({ cls := "MirrorDoorsModel", name := "door", desc := "(II)I" } : Jvm.MethodName) ({ cls := "MirrorDoorsModel", name := "door", desc := "(II)I" } : Jvm.MethodName)) ∈ lw_all := lw_g (lw_at lw_m9 201 rfl) rfl
theorem q2232 : (Jvm.Cond.code ({ cls := "MirrorDoorsModel", name := "door", desc := "(II)I" } : Jvm.MethodName) prog_15_method_83_code (4 : Nat) (Option.some Jvm.ClassFile.FieldType.int)) ∈ lw_all := lw_g (lw_at lw_m9 202 rfl) rfl
theorem q2233 : (Jvm.Cond.methodLink "MirrorDoorsModel" (330 : Nat) ({ cls := "MirrorDoorsModel", name := "noDoor", desc := "(I)Z" } : Jvm.MethodName)) ∈ lw_all := lw_g (lw_at lw_m9 203 rfl) rfl
theorem q2234 : (Jvm.Cond.privateMethod ({ cls := "MirrorDoorsModel", name := "noDoor", desc := "(I)Z" } : Jvm.MethodName)) ∈ lw_tbl := lw_at lw_m9 204 rfl
theorem q2235 : (Jvm.Cond.instanceMethod ({ cls := "MirrorDoorsModel", name := "noDoor", desc := "(I)Z" } : Jvm.MethodName)) ∈ lw_all := lw_g (lw_at lw_m9 205 rfl) rfl
theorem q2236 : (Jvm.Cond.code ({ cls := "MirrorDoorsModel", name := "noDoor", desc := "(I)Z" } : Jvm.MethodName) prog_15_method_82_code (2 : Nat) (Option.some Jvm.ClassFile.FieldType.boolean)) ∈ lw_all := lw_g (lw_at lw_m9 206 rfl) rfl
theorem q2238 : (Jvm.Cond.instanceMethod ({ cls := "MirrorDoorsModel", name := "ray", desc := "(I)I" } : Jvm.MethodName)) ∈ lw_all := lw_g (lw_at lw_m9 208 rfl) rfl
theorem q2239 : (Jvm.Cond.selects "MirrorDoorsModel" ({ cls := "MirrorDoorsModel", name := "ray", desc := "(I)I" } : Jvm.MethodName) ({ cls := "MirrorDoorsModel", name := "ray", desc := "(I)I" } : Jvm.MethodName)) ∈ lw_all := lw_g (lw_at lw_m9 209 rfl) rfl
theorem q2240 : (Jvm.Cond.code ({ cls := "MirrorDoorsModel", name := "ray", desc := "(I)I" } : Jvm.MethodName) prog_15_method_88_code (2 : Nat) (Option.some Jvm.ClassFile.FieldType.int)) ∈ lw_all := lw_g (lw_at lw_m9 210 rfl) rfl
theorem q2241 : (Jvm.Cond.methodLink "MirrorDoorsModel" (339 : Nat) ({ cls := "MirrorDoorsModel", name := "number", desc := "()V" } : Jvm.MethodName)) ∈ lw_all := lw_g (lw_at lw_m9 211 rfl) rfl
theorem q2242 : (Jvm.Cond.privateMethod ({ cls := "MirrorDoorsModel", name := "number", desc := "()V" } : Jvm.MethodName)) ∈ lw_tbl := lw_at lw_m9 212 rfl
theorem q2243 : (Jvm.Cond.instanceMethod ({ cls := "MirrorDoorsModel", name := "number", desc := "()V" } : Jvm.MethodName)) ∈ lw_all := lw_g (lw_at lw_m9 213 rfl) rfl
theorem q2244 : (Jvm.Cond.code ({ cls := "MirrorDoorsModel", name := "number", desc := "()V" } : Jvm.MethodName) prog_15_method_25_code (5 : Nat) (Option.none : Option Jvm.ClassFile.FieldType)) ∈ lw_all := lw_g (lw_at lw_m9 214 rfl) rfl
theorem q2245 : (Jvm.Cond.methodLink "MirrorDoorsModel" (158 : Nat) ({ cls := "MirrorDoorsModel", name := "note", desc := "(II)V" } : Jvm.MethodName)) ∈ lw_all := lw_g (lw_at lw_m9 215 rfl) rfl
theorem q2246 : (Jvm.Cond.privateMethod ({ cls := "MirrorDoorsModel", name := "note", desc := "(II)V" } : Jvm.MethodName)) ∈ lw_tbl := lw_at lw_m9 216 rfl
theorem q2247 : (Jvm.Cond.instanceMethod ({ cls := "MirrorDoorsModel", name := "note", desc := "(II)V" } : Jvm.MethodName)) ∈ lw_all := lw_g (lw_at lw_m9 217 rfl) rfl
theorem q2248 : (Jvm.Cond.code ({ cls := "MirrorDoorsModel", name := "note", desc := "(II)V" } : Jvm.MethodName) prog_15_method_26_code (3 : Nat) (Option.none : Option Jvm.ClassFile.FieldType)) ∈ lw_all := lw_g (lw_at lw_m9 218 rfl) rfl
theorem q2249 : (Jvm.Cond.methodLink "MirrorDoorsModel" (341 : Nat) ({ cls := "MirrorDoorsModel", name := "ringBeams", desc := "()I" } : Jvm.MethodName)) ∈ lw_all := lw_g (lw_at lw_m9 219 rfl) rfl
theorem q2250 : (Jvm.Cond.privateMethod ({ cls := "MirrorDoorsModel", name := "ringBeams", desc := "()I" } : Jvm.MethodName)) ∈ lw_tbl := lw_at lw_m9 220 rfl
theorem q2251 : (Jvm.Cond.instanceMethod ({ cls := "MirrorDoorsModel", name := "ringBeams", desc := "()I" } : Jvm.MethodName)) ∈ lw_all := lw_g (lw_at lw_m9 221 rfl) rfl
theorem q2252 : (Jvm.Cond.code ({ cls := "MirrorDoorsModel", name := "ringBeams", desc := "()I" } : Jvm.MethodName) prog_15_method_84_code (3 : Nat) (Option.some Jvm.ClassFile.FieldType.int)) ∈ lw_all := lw_g (lw_at lw_m9 222 rfl) rfl
theorem q2253 : (Jvm.Cond.methodLink "MirrorDoorsModel" (333 : Nat) ({ cls := "MirrorDoorsModel", name := "isInRing", desc := "(I)Z" } : Jvm.MethodName)) ∈ lw_all := lw_g (lw_at lw_m9 223 rfl) rfl
theorem q2254 : (Jvm.Cond.privateMethod ({ cls := "MirrorDoorsModel", name := "isInRing", desc := "(I)Z" } : Jvm.MethodName)) ∈ lw_tbl := lw_at lw_m9 224 rfl
theorem q2255 : (Jvm.Cond.instanceMethod ({ cls := "MirrorDoorsModel", name := "isInRing", desc := "(I)Z" } : Jvm.MethodName)) ∈ lw_all := lw_g (lw_at lw_m9 225 rfl) rfl
theorem q2256 : (Jvm.Cond.code ({ cls := "MirrorDoorsModel", name := "isInRing", desc := "(I)Z" } : Jvm.MethodName) prog_15_method_27_code (3 : Nat) (Option.some Jvm.ClassFile.FieldType.boolean)) ∈ lw_all := lw_g (lw_at lw_m9 226 rfl) rfl
theorem q2257 : (Jvm.Cond.methodLink "MirrorDoorsModel" (344 : Nat) ({ cls := "MirrorDoorsModel", name := "litCells", desc := "(Z)I" } : Jvm.MethodName)) ∈ lw_all := lw_g (lw_at lw_m9 227 rfl) rfl
theorem q2258 : (Jvm.Cond.privateMethod ({ cls := "MirrorDoorsModel", name := "litCells", desc := "(Z)I" } : Jvm.MethodName)) ∈ lw_tbl := lw_at lw_m9 228 rfl
theorem q2259 : (Jvm.Cond.instanceMethod ({ cls := "MirrorDoorsModel", name := "litCells", desc := "(Z)I" } : Jvm.MethodName)) ∈ lw_all := lw_g (lw_at lw_m9 229 rfl) rfl
theorem q2260 : (Jvm.Cond.code ({ cls := "MirrorDoorsModel", name := "litCells", desc := "(Z)I" } : Jvm.MethodName) prog_15_method_85_code (4 : Nat) (Option.some Jvm.ClassFile.FieldType.int)) ∈ lw_all := lw_g (lw_at lw_m9 230 rfl) rfl
theorem q2261 : (Jvm.Cond.methodLink "MirrorDoorsModel" (348 : Nat) ({ cls := "MirrorDoorsModel", name := "heldByGates", desc := "()I" } : Jvm.MethodName)) ∈ lw_all := lw_g (lw_at lw_m9 231 rfl) rfl
theorem q2262 : (Jvm.Cond.privateMethod ({ cls := "MirrorDoorsModel", name := "heldByGates", desc := "()I" } : Jvm.MethodName)) ∈ lw_tbl := lw_at lw_m9 232 rfl
theorem q2263 : (Jvm.Cond.instanceMethod ({ cls := "MirrorDoorsModel", name := "heldByGates", desc := "()I" } : Jvm.MethodName)) ∈ lw_all := lw_g (lw_at lw_m9 233 rfl) rfl
theorem q2264 : (Jvm.Cond.code ({ cls := "MirrorDoorsModel", name := "heldByGates", desc := "()I" } : Jvm.MethodName) prog_15_method_86_code (4 : Nat) (Option.some Jvm.ClassFile.FieldType.int)) ∈ lw_all := lw_g (lw_at lw_m9 234 rfl) rfl
theorem q2265 : (Jvm.Cond.methodLink "MirrorDoorsModel" (351 : Nat) ({ cls := "MirrorDoorsModel", name := "mostFollowers", desc := "()I" } : Jvm.MethodName)) ∈ lw_all := lw_g (lw_at lw_m9 235 rfl) rfl
theorem q2266 : (Jvm.Cond.privateMethod ({ cls := "MirrorDoorsModel", name := "mostFollowers", desc := "()I" } : Jvm.MethodName)) ∈ lw_tbl := lw_at lw_m9 236 rfl
theorem q2267 : (Jvm.Cond.instanceMethod ({ cls := "MirrorDoorsModel", name := "mostFollowers", desc := "()I" } : Jvm.MethodName)) ∈ lw_all := lw_g (lw_at lw_m9 237 rfl) rfl
theorem q2268 : (Jvm.Cond.code ({ cls := "MirrorDoorsModel", name := "mostFollowers", desc := "()I" } : Jvm.MethodName) prog_15_method_87_code (4 : Nat) (Option.some Jvm.ClassFile.FieldType.int)) ∈ lw_all := lw_g (lw_at lw_m9 238 rfl) rfl
theorem q2269 : (Jvm.Cond.methodLink "MirrorDoorsModel" (336 : Nat) ({ cls := "MirrorDoorsModel", name := "followers", desc := "(I)I" } : Jvm.MethodName)) ∈ lw_all := lw_g (lw_at lw_m9 239 rfl) rfl
theorem q2270 : (Jvm.Cond.privateMethod ({ cls := "MirrorDoorsModel", name := "followers", desc := "(I)I" } : Jvm.MethodName)) ∈ lw_tbl := lw_at lw_m10 0 rfl
theorem q2271 : (Jvm.Cond.instanceMethod ({ cls := "MirrorDoorsModel", name := "followers", desc := "(I)I" } : Jvm.MethodName)) ∈ lw_all := lw_g (lw_at lw_m10 1 rfl) rfl
theorem q2272 : (Jvm.Cond.code ({ cls := "MirrorDoorsModel", name := "followers", desc := "(I)I" } : Jvm.MethodName) prog_15_method_28_code (5 : Nat) (Option.some Jvm.ClassFile.FieldType.int)) ∈ lw_all := lw_g (lw_at lw_m10 2 rfl) rfl
theorem q2274 : (Jvm.Cond.instanceMethod ({ cls := "MirrorDoorsModel", name := "beam", desc := "(II)I" } : Jvm.MethodName)) ∈ lw_all := lw_g (lw_at lw_m10 4 rfl) rfl
theorem q2275 : (Jvm.Cond.selects "MirrorDoorsModel" ({ cls := "MirrorDoorsModel", name := "beam", desc := "(II)I" } : Jvm.MethodName) ({ cls := "MirrorDoorsModel", name := "beam", desc := "(II)I" } : Jvm.MethodName)) ∈ lw_all := lw_g (lw_at lw_m10 5 rfl) rfl
theorem q2276 : (Jvm.Cond.code ({ cls := "MirrorDoorsModel", name := "beam", desc := "(II)I" } : Jvm.MethodName) prog_15_method_89_code (4 : Nat) (Option.some Jvm.ClassFile.FieldType.int)) ∈ lw_all := lw_g (lw_at lw_m10 6 rfl) rfl
theorem q2278 : (Jvm.Cond.instanceMethod ({ cls := "MirrorDoorsModel", name := "stepsTo", desc := "(I)I" } : Jvm.MethodName)) ∈ lw_all := lw_g (lw_at lw_m10 8 rfl) rfl
theorem q2279 : (Jvm.Cond.selects "MirrorDoorsModel" ({ cls := "MirrorDoorsModel", name := "stepsTo", desc := "(I)I" } : Jvm.MethodName) ({ cls := "MirrorDoorsModel", name := "stepsTo", desc := "(I)I" } : Jvm.MethodName)) ∈ lw_all := lw_g (lw_at lw_m10 9 rfl) rfl
theorem q2280 : (Jvm.Cond.code ({ cls := "MirrorDoorsModel", name := "stepsTo", desc := "(I)I" } : Jvm.MethodName) prog_15_method_91_code (2 : Nat) (Option.some Jvm.ClassFile.FieldType.int)) ∈ lw_all := lw_g (lw_at lw_m10 10 rfl) rfl
theorem q2281 : (Jvm.Cond.methodLink "MirrorDoorsModel" (354 : Nat) ({ cls := "MirrorDoorsModel", name := "leastSteps", desc := "(I)I" } : Jvm.MethodName)) ∈ lw_all := lw_g (lw_at lw_m10 11 rfl) rfl
theorem q2282 : (Jvm.Cond.privateMethod ({ cls := "MirrorDoorsModel", name := "leastSteps", desc := "(I)I" } : Jvm.MethodName)) ∈ lw_tbl := lw_at lw_m10 12 rfl
theorem q2283 : (Jvm.Cond.instanceMethod ({ cls := "MirrorDoorsModel", name := "leastSteps", desc := "(I)I" } : Jvm.MethodName)) ∈ lw_all := lw_g (lw_at lw_m10 13 rfl) rfl
theorem q2284 : (Jvm.Cond.code ({ cls := "MirrorDoorsModel", name := "leastSteps", desc := "(I)I" } : Jvm.MethodName) prog_15_method_90_code (4 : Nat) (Option.some Jvm.ClassFile.FieldType.int)) ∈ lw_all := lw_g (lw_at lw_m10 14 rfl) rfl
theorem q2286 : (Jvm.Cond.instanceMethod ({ cls := "MirrorDoorsModel", name := "whyNot", desc := "(III)I" } : Jvm.MethodName)) ∈ lw_all := lw_g (lw_at lw_m10 16 rfl) rfl
theorem q2287 : (Jvm.Cond.selects "MirrorDoorsModel" ({ cls := "MirrorDoorsModel", name := "whyNot", desc := "(III)I" } : Jvm.MethodName) ({ cls := "MirrorDoorsModel", name := "whyNot", desc := "(III)I" } : Jvm.MethodName)) ∈ lw_all := lw_g (lw_at lw_m10 17 rfl) rfl
theorem q2288 : (Jvm.Cond.code ({ cls := "MirrorDoorsModel", name := "whyNot", desc := "(III)I" } : Jvm.MethodName) prog_15_method_92_code (6 : Nat) (Option.some Jvm.ClassFile.FieldType.int)) ∈ lw_all := lw_g (lw_at lw_m10 18 rfl) rfl
theorem q2290 : (Jvm.Cond.instanceMethod ({ cls := "MirrorDoorsModel", name := "gap", desc := "()I" } : Jvm.MethodName)) ∈ lw_all := lw_g (lw_at lw_m10 20 rfl) rfl
theorem q2291 : (Jvm.Cond.selects "MirrorDoorsModel" ({ cls := "MirrorDoorsModel", name := "gap", desc := "()I" } : Jvm.MethodName) ({ cls := "MirrorDoorsModel", name := "gap", desc := "()I" } : Jvm.MethodName)) ∈ lw_all := lw_g (lw_at lw_m10 21 rfl) rfl
theorem q2292 : (Jvm.Cond.code ({ cls := "MirrorDoorsModel", name := "gap", desc := "()I" } : Jvm.MethodName) prog_15_method_93_code (3 : Nat) (Option.some Jvm.ClassFile.FieldType.int)) ∈ lw_all := lw_g (lw_at lw_m10 22 rfl) rfl
theorem q2294 : (Jvm.Cond.instanceMethod ({ cls := "MirrorDoorsModel", name := "hitIf", desc := "(I)I" } : Jvm.MethodName)) ∈ lw_all := lw_g (lw_at lw_m10 24 rfl) rfl
theorem q2295 : (Jvm.Cond.selects "MirrorDoorsModel" ({ cls := "MirrorDoorsModel", name := "hitIf", desc := "(I)I" } : Jvm.MethodName) ({ cls := "MirrorDoorsModel", name := "hitIf", desc := "(I)I" } : Jvm.MethodName)) ∈ lw_all := lw_g (lw_at lw_m10 25 rfl) rfl
theorem q2296 : (Jvm.Cond.code ({ cls := "MirrorDoorsModel", name := "hitIf", desc := "(I)I" } : Jvm.MethodName) prog_15_method_96_code (3 : Nat) (Option.some Jvm.ClassFile.FieldType.int)) ∈ lw_all := lw_g (lw_at lw_m10 26 rfl) rfl
theorem q2297 : (Jvm.Cond.methodLink "MirrorDoorsModel" (357 : Nat) ({ cls := "MirrorDoorsModel", name := "flip", desc := "(I)V" } : Jvm.MethodName)) ∈ lw_all := lw_g (lw_at lw_m10 27 rfl) rfl
theorem q2298 : (Jvm.Cond.privateMethod ({ cls := "MirrorDoorsModel", name := "flip", desc := "(I)V" } : Jvm.MethodName)) ∈ lw_tbl := lw_at lw_m10 28 rfl
theorem q2299 : (Jvm.Cond.instanceMethod ({ cls := "MirrorDoorsModel", name := "flip", desc := "(I)V" } : Jvm.MethodName)) ∈ lw_all := lw_g (lw_at lw_m10 29 rfl) rfl
theorem q2300 : (Jvm.Cond.code ({ cls := "MirrorDoorsModel", name := "flip", desc := "(I)V" } : Jvm.MethodName) prog_15_method_94_code (3 : Nat) (Option.none : Option Jvm.ClassFile.FieldType)) ∈ lw_all := lw_g (lw_at lw_m10 30 rfl) rfl
theorem q2302 : (Jvm.Cond.instanceMethod ({ cls := "MirrorDoorsModel", name := "fewest", desc := "(I)I" } : Jvm.MethodName)) ∈ lw_all := lw_g (lw_at lw_m10 32 rfl) rfl
theorem q2303 : (Jvm.Cond.selects "MirrorDoorsModel" ({ cls := "MirrorDoorsModel", name := "fewest", desc := "(I)I" } : Jvm.MethodName) ({ cls := "MirrorDoorsModel", name := "fewest", desc := "(I)I" } : Jvm.MethodName)) ∈ lw_all := lw_g (lw_at lw_m10 33 rfl) rfl
theorem q2304 : (Jvm.Cond.code ({ cls := "MirrorDoorsModel", name := "fewest", desc := "(I)I" } : Jvm.MethodName) prog_15_method_98_code (5 : Nat) (Option.some Jvm.ClassFile.FieldType.int)) ∈ lw_all := lw_g (lw_at lw_m10 34 rfl) rfl
theorem q2305 : (Jvm.Cond.methodLink "MirrorDoorsModel" (363 : Nat) ({ cls := "MirrorDoorsModel", name := "isHitWith", desc := "(II)Z" } : Jvm.MethodName)) ∈ lw_all := lw_g (lw_at lw_m10 35 rfl) rfl
theorem q2306 : (Jvm.Cond.privateMethod ({ cls := "MirrorDoorsModel", name := "isHitWith", desc := "(II)Z" } : Jvm.MethodName)) ∈ lw_tbl := lw_at lw_m10 36 rfl
theorem q2307 : (Jvm.Cond.instanceMethod ({ cls := "MirrorDoorsModel", name := "isHitWith", desc := "(II)Z" } : Jvm.MethodName)) ∈ lw_all := lw_g (lw_at lw_m10 37 rfl) rfl
theorem q2308 : (Jvm.Cond.code ({ cls := "MirrorDoorsModel", name := "isHitWith", desc := "(II)Z" } : Jvm.MethodName) prog_15_method_97_code (4 : Nat) (Option.some Jvm.ClassFile.FieldType.boolean)) ∈ lw_all := lw_g (lw_at lw_m10 38 rfl) rfl
theorem q2309 : (Jvm.Cond.methodLink "MirrorDoorsModel" (360 : Nat) ({ cls := "MirrorDoorsModel", name := "flipAll", desc := "(I)V" } : Jvm.MethodName)) ∈ lw_all := lw_g (lw_at lw_m10 39 rfl) rfl
theorem q2310 : (Jvm.Cond.privateMethod ({ cls := "MirrorDoorsModel", name := "flipAll", desc := "(I)V" } : Jvm.MethodName)) ∈ lw_tbl := lw_at lw_m10 40 rfl
theorem q2311 : (Jvm.Cond.instanceMethod ({ cls := "MirrorDoorsModel", name := "flipAll", desc := "(I)V" } : Jvm.MethodName)) ∈ lw_all := lw_g (lw_at lw_m10 41 rfl) rfl
theorem q2312 : (Jvm.Cond.code ({ cls := "MirrorDoorsModel", name := "flipAll", desc := "(I)V" } : Jvm.MethodName) prog_15_method_95_code (3 : Nat) (Option.none : Option Jvm.ClassFile.FieldType)) ∈ lw_all := lw_g (lw_at lw_m10 42 rfl) rfl
theorem q2314 : (Jvm.Cond.instanceMethod ({ cls := "MirrorDoorsModel", name := "settings", desc := "(I)I" } : Jvm.MethodName)) ∈ lw_all := lw_g (lw_at lw_m10 44 rfl) rfl
theorem q2315 : (Jvm.Cond.selects "MirrorDoorsModel" ({ cls := "MirrorDoorsModel", name := "settings", desc := "(I)I" } : Jvm.MethodName) ({ cls := "MirrorDoorsModel", name := "settings", desc := "(I)I" } : Jvm.MethodName)) ∈ lw_all := lw_g (lw_at lw_m10 45 rfl) rfl
theorem q2316 : (Jvm.Cond.code ({ cls := "MirrorDoorsModel", name := "settings", desc := "(I)I" } : Jvm.MethodName) prog_15_method_99_code (5 : Nat) (Option.some Jvm.ClassFile.FieldType.int)) ∈ lw_all := lw_g (lw_at lw_m10 46 rfl) rfl
theorem q2318 : (Jvm.Cond.instanceMethod ({ cls := "MirrorDoorsModel", name := "worth", desc := "(I)I" } : Jvm.MethodName)) ∈ lw_all := lw_g (lw_at lw_m10 48 rfl) rfl
theorem q2319 : (Jvm.Cond.selects "MirrorDoorsModel" ({ cls := "MirrorDoorsModel", name := "worth", desc := "(I)I" } : Jvm.MethodName) ({ cls := "MirrorDoorsModel", name := "worth", desc := "(I)I" } : Jvm.MethodName)) ∈ lw_all := lw_g (lw_at lw_m10 49 rfl) rfl
theorem q2320 : (Jvm.Cond.code ({ cls := "MirrorDoorsModel", name := "worth", desc := "(I)I" } : Jvm.MethodName) prog_15_method_103_code (2 : Nat) (Option.some Jvm.ClassFile.FieldType.int)) ∈ lw_all := lw_g (lw_at lw_m10 50 rfl) rfl
theorem q2321 : (Jvm.Cond.methodLink "MirrorDoorsModel" (372 : Nat) ({ cls := "MirrorDoorsModel", name := "worthOf", desc := "(I)I" } : Jvm.MethodName)) ∈ lw_all := lw_g (lw_at lw_m10 51 rfl) rfl
theorem q2322 : (Jvm.Cond.privateMethod ({ cls := "MirrorDoorsModel", name := "worthOf", desc := "(I)I" } : Jvm.MethodName)) ∈ lw_tbl := lw_at lw_m10 52 rfl
theorem q2323 : (Jvm.Cond.instanceMethod ({ cls := "MirrorDoorsModel", name := "worthOf", desc := "(I)I" } : Jvm.MethodName)) ∈ lw_all := lw_g (lw_at lw_m10 53 rfl) rfl
theorem q2324 : (Jvm.Cond.code ({ cls := "MirrorDoorsModel", name := "worthOf", desc := "(I)I" } : Jvm.MethodName) prog_15_method_102_code (5 : Nat) (Option.some Jvm.ClassFile.FieldType.int)) ∈ lw_all := lw_g (lw_at lw_m10 54 rfl) rfl
theorem q2325 : (Jvm.Cond.methodLink "MirrorDoorsModel" (366 : Nat) ({ cls := "MirrorDoorsModel", name := "enter", desc := "(I)V" } : Jvm.MethodName)) ∈ lw_all := lw_g (lw_at lw_m10 55 rfl) rfl
theorem q2326 : (Jvm.Cond.privateMethod ({ cls := "MirrorDoorsModel", name := "enter", desc := "(I)V" } : Jvm.MethodName)) ∈ lw_tbl := lw_at lw_m10 56 rfl
theorem q2327 : (Jvm.Cond.instanceMethod ({ cls := "MirrorDoorsModel", name := "enter", desc := "(I)V" } : Jvm.MethodName)) ∈ lw_all := lw_g (lw_at lw_m10 57 rfl) rfl
theorem q2328 : (Jvm.Cond.code ({ cls := "MirrorDoorsModel", name := "enter", desc := "(I)V" } : Jvm.MethodName) prog_15_method_100_code (2 : Nat) (Option.none : Option Jvm.ClassFile.FieldType)) ∈ lw_all := lw_g (lw_at lw_m10 58 rfl) rfl
theorem q2329 : (Jvm.Cond.methodLink "MirrorDoorsModel" (369 : Nat) ({ cls := "MirrorDoorsModel", name := "tryNext", desc := "(I)Z" } : Jvm.MethodName)) ∈ lw_all := lw_g (lw_at lw_m10 59 rfl) rfl
theorem q2330 : (Jvm.Cond.privateMethod ({ cls := "MirrorDoorsModel", name := "tryNext", desc := "(I)Z" } : Jvm.MethodName)) ∈ lw_tbl := lw_at lw_m10 60 rfl
theorem q2331 : (Jvm.Cond.instanceMethod ({ cls := "MirrorDoorsModel", name := "tryNext", desc := "(I)Z" } : Jvm.MethodName)) ∈ lw_all := lw_g (lw_at lw_m10 61 rfl) rfl
theorem q2332 : (Jvm.Cond.code ({ cls := "MirrorDoorsModel", name := "tryNext", desc := "(I)Z" } : Jvm.MethodName) prog_15_method_101_code (4 : Nat) (Option.some Jvm.ClassFile.FieldType.boolean)) ∈ lw_all := lw_g (lw_at lw_m10 62 rfl) rfl
theorem q2334 : (Jvm.Cond.instanceMethod ({ cls := "MirrorDoorsModel", name := "best", desc := "(I)I" } : Jvm.MethodName)) ∈ lw_all := lw_g (lw_at lw_m10 64 rfl) rfl
theorem q2335 : (Jvm.Cond.selects "MirrorDoorsModel" ({ cls := "MirrorDoorsModel", name := "best", desc := "(I)I" } : Jvm.MethodName) ({ cls := "MirrorDoorsModel", name := "best", desc := "(I)I" } : Jvm.MethodName)) ∈ lw_all := lw_g (lw_at lw_m10 65 rfl) rfl
theorem q2336 : (Jvm.Cond.code ({ cls := "MirrorDoorsModel", name := "best", desc := "(I)I" } : Jvm.MethodName) prog_15_method_104_code (8 : Nat) (Option.some Jvm.ClassFile.FieldType.int)) ∈ lw_all := lw_g (lw_at lw_m10 66 rfl) rfl
theorem q2338 : (Jvm.Cond.instanceMethod ({ cls := "MirrorDoorsModel", name := "litShare", desc := "()F" } : Jvm.MethodName)) ∈ lw_all := lw_g (lw_at lw_m10 68 rfl) rfl
theorem q2339 : (Jvm.Cond.selects "MirrorDoorsModel" ({ cls := "MirrorDoorsModel", name := "litShare", desc := "()F" } : Jvm.MethodName) ({ cls := "MirrorDoorsModel", name := "litShare", desc := "()F" } : Jvm.MethodName)) ∈ lw_all := lw_g (lw_at lw_m10 69 rfl) rfl
theorem q2340 : (Jvm.Cond.code ({ cls := "MirrorDoorsModel", name := "litShare", desc := "()F" } : Jvm.MethodName) prog_15_method_105_code (1 : Nat) (Option.some Jvm.ClassFile.FieldType.float)) ∈ lw_all := lw_g (lw_at lw_m10 70 rfl) rfl
theorem q2342 : (Jvm.Cond.instanceMethod ({ cls := "MirrorDoorsModel", name := "meanSteps", desc := "()D" } : Jvm.MethodName)) ∈ lw_all := lw_g (lw_at lw_m10 72 rfl) rfl
theorem q2343 : (Jvm.Cond.selects "MirrorDoorsModel" ({ cls := "MirrorDoorsModel", name := "meanSteps", desc := "()D" } : Jvm.MethodName) ({ cls := "MirrorDoorsModel", name := "meanSteps", desc := "()D" } : Jvm.MethodName)) ∈ lw_all := lw_g (lw_at lw_m10 73 rfl) rfl
theorem q2344 : (Jvm.Cond.code ({ cls := "MirrorDoorsModel", name := "meanSteps", desc := "()D" } : Jvm.MethodName) prog_15_method_106_code (6 : Nat) (Option.some Jvm.ClassFile.FieldType.double)) ∈ lw_all := lw_g (lw_at lw_m10 74 rfl) rfl
theorem q2346 : (Jvm.Cond.instanceMethod ({ cls := "MirrorDoorsModel", name := "writeBoard", desc := "()I" } : Jvm.MethodName)) ∈ lw_all := lw_g (lw_at lw_m10 76 rfl) rfl
theorem q2347 : (Jvm.Cond.selects "MirrorDoorsModel" ({ cls := "MirrorDoorsModel", name := "writeBoard", desc := "()I" } : Jvm.MethodName) ({ cls := "MirrorDoorsModel", name := "writeBoard", desc := "()I" } : Jvm.MethodName)) ∈ lw_all := lw_g (lw_at lw_m10 77 rfl) rfl
theorem q2348 : (Jvm.Cond.code ({ cls := "MirrorDoorsModel", name := "writeBoard", desc := "()I" } : Jvm.MethodName) prog_15_method_109_code (3 : Nat) (Option.some Jvm.ClassFile.FieldType.int)) ∈ lw_all := lw_g (lw_at lw_m10 78 rfl) rfl
theorem q2349 : (Jvm.Cond.methodLink "MirrorDoorsModel" (381 : Nat) ({ cls := "MirrorDoorsModel", name := "byteOf", desc := "(I)I" } : Jvm.MethodName)) ∈ lw_all := lw_g (lw_at lw_m10 79 rfl) rfl
theorem q2350 : (Jvm.Cond.privateMethod ({ cls := "MirrorDoorsModel", name := "byteOf", desc := "(I)I" } : Jvm.MethodName)) ∈ lw_tbl := lw_at lw_m10 80 rfl
theorem q2351 : (Jvm.Cond.instanceMethod ({ cls := "MirrorDoorsModel", name := "byteOf", desc := "(I)I" } : Jvm.MethodName)) ∈ lw_all := lw_g (lw_at lw_m10 81 rfl) rfl
theorem q2352 : (Jvm.Cond.code ({ cls := "MirrorDoorsModel", name := "byteOf", desc := "(I)I" } : Jvm.MethodName) prog_15_method_108_code (3 : Nat) (Option.some Jvm.ClassFile.FieldType.int)) ∈ lw_all := lw_g (lw_at lw_m10 82 rfl) rfl
theorem q2353 : (Jvm.Cond.methodLink "MirrorDoorsModel" (375 : Nat) ({ cls := "MirrorDoorsModel", name := "direction", desc := "(I)I" } : Jvm.MethodName)) ∈ lw_all := lw_g (lw_at lw_m10 83 rfl) rfl
theorem q2354 : (Jvm.Cond.static ({ cls := "MirrorDoorsModel", name := "direction", desc := "(I)I" } : Jvm.MethodName)) ∈ lw_all := lw_g (lw_at lw_m10 84 rfl) rfl
theorem q2355 : (Jvm.Cond.code ({ cls := "MirrorDoorsModel", name := "direction", desc := "(I)I" } : Jvm.MethodName) prog_15_method_107_code (1 : Nat) (Option.some Jvm.ClassFile.FieldType.int)) ∈ lw_all := lw_g (lw_at lw_m10 85 rfl) rfl
theorem q2357 : (Jvm.Cond.instanceMethod ({ cls := "MirrorDoorsModel", name := "reportByte", desc := "(I)I" } : Jvm.MethodName)) ∈ lw_all := lw_g (lw_at lw_m10 87 rfl) rfl
theorem q2358 : (Jvm.Cond.selects "MirrorDoorsModel" ({ cls := "MirrorDoorsModel", name := "reportByte", desc := "(I)I" } : Jvm.MethodName) ({ cls := "MirrorDoorsModel", name := "reportByte", desc := "(I)I" } : Jvm.MethodName)) ∈ lw_all := lw_g (lw_at lw_m10 88 rfl) rfl
theorem q2359 : (Jvm.Cond.code ({ cls := "MirrorDoorsModel", name := "reportByte", desc := "(I)I" } : Jvm.MethodName) prog_15_method_110_code (2 : Nat) (Option.some Jvm.ClassFile.FieldType.int)) ∈ lw_all := lw_g (lw_at lw_m10 89 rfl) rfl
theorem q2388 : (Jvm.Cond.castable "MirrorDoorsModel" "java/lang/Object") ∈ lw_tbl := lw_at lw_m10 118 rfl
theorem in_X9 : ∀ w ∈ wsX90, w ∈ lw_all := lw_in wsX90 [1935, 1937, 1939, 1941, 1943, 1945, 1947, 1949, 1951, 1953, 1955, 1957, 1959, 1961, 1963, 1965, 1967, 1969, 1971, 1973, 1975, 1977, 1979, 1981, 1983, 1985, 1987, 1989, 1991, 1993, 1995] (by decide +kernel) (by decide +kernel)

theorem q202 : (Jvm.Cond.arrayClass Jvm.ClassFile.FieldType.int) ∈ lw_all := lw_g (lw_at lw_m1 92 rfl) rfl
set_option maxRecDepth 100000
theorem q214 : (Jvm.Cond.arrayOver (Jvm.ClassFile.FieldType.object "java/lang/Object")) ∈ lw_tbl := lw_at lw_m1 104 rfl
theorem q225 : (Jvm.Cond.arrayClass Jvm.ClassFile.FieldType.byte) ∈ lw_all := lw_g (lw_at lw_m1 115 rfl) rfl
theorem q227 : (Jvm.Cond.arrayOver (Jvm.ClassFile.FieldType.object "MirrorDoors$World")) ∈ lw_tbl := lw_at lw_m1 117 rfl
theorem q238 : (Jvm.Cond.arrayOver (Jvm.ClassFile.FieldType.object "MirrorDoors$Cell")) ∈ lw_tbl := lw_at lw_m1 128 rfl
theorem q1816 : (Jvm.Cond.arrayOver (Jvm.ClassFile.FieldType.array Jvm.ClassFile.FieldType.int)) ∈ lw_tbl := lw_at lw_m8 26 rfl
theorem q1998 : (Jvm.Cond.arrayClass Jvm.ClassFile.FieldType.boolean) ∈ lw_all := lw_g (lw_at lw_m8 208 rfl) rfl
theorem q2360 : (Jvm.Cond.arrayClass Jvm.ClassFile.FieldType.long) ∈ lw_all := lw_g (lw_at lw_m10 90 rfl) rfl
theorem q2413 : (Jvm.Cond.arrayClass Jvm.ClassFile.FieldType.char) ∈ lw_all := lw_g (lw_at lw_m10 143 rfl) rfl
theorem q2414 : (Jvm.Cond.arrayClass Jvm.ClassFile.FieldType.short) ∈ lw_all := lw_g (lw_at lw_m10 144 rfl) rfl
