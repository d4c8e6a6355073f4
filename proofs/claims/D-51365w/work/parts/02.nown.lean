/-! MirrorDoors -/
set_option maxRecDepth 100000
def RX1 : String := "MirrorDoors"
def TX1 : u_T := fun k => match k with
  | 0 => ("MirrorDoors", "ray", "LMirrorDoors$Ray;", true)
  | 1 => ("MirrorDoors", "buffer", "[B", true)
  | 2 => ("MirrorDoors", "length", "I", false)
  | 3 => ("MirrorDoors", "now", "LMirrorDoors$World;", false)
  | 4 => ("MirrorDoors", "history", "Ljava/util/ArrayDeque;", true)
  | 5 => ("MirrorDoors", "kept", "[LMirrorDoors$World;", true)
  | _ => ("MirrorDoors", "report", "Ljava/lang/String;", false)
def tyX1 : Nat → FieldType := fun k => match k with
  | 0 => .object "MirrorDoors$Ray"
  | 1 => .array .byte
  | 2 => .int
  | 3 => .object "MirrorDoors$World"
  | 4 => .object "java/util/ArrayDeque"
  | 5 => .array (.object "MirrorDoors$World")
  | _ => .object "java/lang/String"
abbrev wsX10 : List Cond := u_ws RX1 TX1 7
theorem nmX1 : ∀ a, a < 7 → ∀ b, b < 7 → a ≠ b → (TX1 a).2.1 ≠ (TX1 b).2.1 := by decide +kernel
theorem tyX1_ok : ∀ k, k < 7 → parseFieldDescriptor (TX1 k).2.2.1 = some (tyX1 k) := by decide +kernel
abbrev cX1_init : ByteArray := prog_1_method_3_code
def yX1_init : MethodName := ⟨RX1, "<init>", "()V"⟩
def dkwX1_init_6 : List UInt8 := [183, 0, 60, 83, 182, 0, 63, 42, 180, 0, 47, 16, 30, 181, 0, 67, 42, 180, 0, 47, 182, 0, 71, 177]
abbrev dktX1_init_6 : List UInt8 := dkwX1_init_6 ++ []
def dkwX1_init_5 : List UInt8 := [83, 89, 6, 187, 0, 58, 89, 4, 5, 183, 0, 60, 83, 89, 7, 187, 0, 58, 89, 16, 30, 4]
abbrev dktX1_init_5 : List UInt8 := dkwX1_init_5 ++ dktX1_init_6
def dkwX1_init_4 : List UInt8 := [89, 16, 33, 3, 4, 4, 183, 0, 55, 83, 89, 5, 187, 0, 53, 89, 16, 11, 4, 4, 3, 183, 0, 55]
abbrev dktX1_init_4 : List UInt8 := dkwX1_init_4 ++ dktX1_init_5
def dkwX1_init_3 : List UInt8 := [8, 189, 0, 51, 89, 3, 187, 0, 53, 89, 16, 13, 3, 4, 3, 183, 0, 55, 83, 89, 4, 187, 0, 53]
abbrev dktX1_init_3 : List UInt8 := dkwX1_init_3 ++ dktX1_init_4
def dkwX1_init_2 : List UInt8 := [181, 0, 40, 42, 187, 0, 32, 89, 42, 180, 0, 13, 8, 7, 16, 10, 4, 183, 0, 44, 181, 0, 47, 42]
abbrev dktX1_init_2 : List UInt8 := dkwX1_init_2 ++ dktX1_init_3
def dkwX1_init_1 : List UInt8 := [42, 187, 0, 23, 89, 16, 10, 183, 0, 25, 181, 0, 28, 42, 5, 189, 0, 32, 181, 0, 34, 42, 18, 38]
abbrev dktX1_init_1 : List UInt8 := dkwX1_init_1 ++ dktX1_init_2
def dkwX1_init_0 : List UInt8 := [42, 183, 0, 7, 42, 187, 0, 10, 89, 183, 0, 12, 181, 0, 13, 42, 17, 2, 88, 188, 8, 181, 0, 19]
abbrev dktX1_init_0 : List UInt8 := dkwX1_init_0 ++ dktX1_init_1
theorem dksX1_init_0 : cX1_init.data.toList.drop 0 = dktX1_init_0 := by decide +kernel
theorem dksX1_init_1 : cX1_init.data.toList.drop 24 = dktX1_init_1 := dk_seg dksX1_init_0 24 rfl rfl
theorem dksX1_init_2 : cX1_init.data.toList.drop 48 = dktX1_init_2 := dk_seg dksX1_init_1 24 rfl rfl
theorem dksX1_init_3 : cX1_init.data.toList.drop 72 = dktX1_init_3 := dk_seg dksX1_init_2 24 rfl rfl
theorem dksX1_init_4 : cX1_init.data.toList.drop 96 = dktX1_init_4 := dk_seg dksX1_init_3 24 rfl rfl
theorem dksX1_init_5 : cX1_init.data.toList.drop 120 = dktX1_init_5 := dk_seg dksX1_init_4 24 rfl rfl
theorem dksX1_init_6 : cX1_init.data.toList.drop 142 = dktX1_init_6 := dk_seg dksX1_init_5 22 rfl rfl
theorem dX1_init_0 : decode cX1_init 0 = .ok (.aload_n 0, 1) := dk_42 (dk_at dksX1_init_0 0 rfl rfl)
theorem dX1_init_1 : decode cX1_init 1 = .ok (.invokespecial 7, 3) := dk_183 0 7 (dk_at dksX1_init_0 1 rfl rfl)
theorem dX1_init_4 : decode cX1_init 4 = .ok (.aload_n 0, 1) := dk_42 (dk_at dksX1_init_0 4 rfl rfl)
theorem dX1_init_5 : decode cX1_init 5 = .ok (.new 10, 3) := dk_187 0 10 (dk_at dksX1_init_0 5 rfl rfl)
theorem dX1_init_8 : decode cX1_init 8 = .ok (.dup, 1) := dk_89 (dk_at dksX1_init_0 8 rfl rfl)
theorem dX1_init_9 : decode cX1_init 9 = .ok (.invokespecial 12, 3) := dk_183 0 12 (dk_at dksX1_init_0 9 rfl rfl)
theorem dX1_init_12 : decode cX1_init 12 = .ok (.putfield 13, 3) := dk_181 0 13 (dk_at dksX1_init_0 12 rfl rfl)
theorem dX1_init_15 : decode cX1_init 15 = .ok (.aload_n 0, 1) := dk_42 (dk_at dksX1_init_0 15 rfl rfl)
theorem dX1_init_16 : decode cX1_init 16 = .ok (.sipush 600, 3) := dk_17 2 88 (dk_at dksX1_init_0 16 rfl rfl)
theorem dX1_init_19 : decode cX1_init 19 = .ok (.newarray .byte, 2) := dk_188_8 (dk_at dksX1_init_0 19 rfl rfl)
theorem dX1_init_21 : decode cX1_init 21 = .ok (.putfield 19, 3) := dk_181 0 19 (dk_at dksX1_init_0 21 rfl rfl)
theorem dX1_init_24 : decode cX1_init 24 = .ok (.aload_n 0, 1) := dk_42 (dk_at dksX1_init_1 0 rfl rfl)
theorem dX1_init_25 : decode cX1_init 25 = .ok (.new 23, 3) := dk_187 0 23 (dk_at dksX1_init_1 1 rfl rfl)
theorem dX1_init_28 : decode cX1_init 28 = .ok (.dup, 1) := dk_89 (dk_at dksX1_init_1 4 rfl rfl)
theorem dX1_init_29 : decode cX1_init 29 = .ok (.bipush 10, 2) := dk_16 10 (dk_at dksX1_init_1 5 rfl rfl)
theorem dX1_init_31 : decode cX1_init 31 = .ok (.invokespecial 25, 3) := dk_183 0 25 (dk_at dksX1_init_1 7 rfl rfl)
theorem dX1_init_34 : decode cX1_init 34 = .ok (.putfield 28, 3) := dk_181 0 28 (dk_at dksX1_init_1 10 rfl rfl)
theorem dX1_init_37 : decode cX1_init 37 = .ok (.aload_n 0, 1) := dk_42 (dk_at dksX1_init_1 13 rfl rfl)
theorem dX1_init_38 : decode cX1_init 38 = .ok (.iconst 2, 1) := dk_5 (dk_at dksX1_init_1 14 rfl rfl)
theorem dX1_init_39 : decode cX1_init 39 = .ok (.anewarray 32, 3) := dk_189 0 32 (dk_at dksX1_init_1 15 rfl rfl)
theorem dX1_init_42 : decode cX1_init 42 = .ok (.putfield 34, 3) := dk_181 0 34 (dk_at dksX1_init_1 18 rfl rfl)
theorem dX1_init_45 : decode cX1_init 45 = .ok (.aload_n 0, 1) := dk_42 (dk_at dksX1_init_1 21 rfl rfl)
theorem dX1_init_46 : decode cX1_init 46 = .ok (.ldc 38, 2) := dk_18 38 (dk_at dksX1_init_1 22 rfl rfl)
theorem dX1_init_48 : decode cX1_init 48 = .ok (.putfield 40, 3) := dk_181 0 40 (dk_at dksX1_init_2 0 rfl rfl)
theorem dX1_init_51 : decode cX1_init 51 = .ok (.aload_n 0, 1) := dk_42 (dk_at dksX1_init_2 3 rfl rfl)
theorem dX1_init_52 : decode cX1_init 52 = .ok (.new 32, 3) := dk_187 0 32 (dk_at dksX1_init_2 4 rfl rfl)
theorem dX1_init_55 : decode cX1_init 55 = .ok (.dup, 1) := dk_89 (dk_at dksX1_init_2 7 rfl rfl)
theorem dX1_init_56 : decode cX1_init 56 = .ok (.aload_n 0, 1) := dk_42 (dk_at dksX1_init_2 8 rfl rfl)
theorem dX1_init_57 : decode cX1_init 57 = .ok (.getfield 13, 3) := dk_180 0 13 (dk_at dksX1_init_2 9 rfl rfl)
theorem dX1_init_60 : decode cX1_init 60 = .ok (.iconst 5, 1) := dk_8 (dk_at dksX1_init_2 12 rfl rfl)
theorem dX1_init_61 : decode cX1_init 61 = .ok (.iconst 4, 1) := dk_7 (dk_at dksX1_init_2 13 rfl rfl)
theorem dX1_init_62 : decode cX1_init 62 = .ok (.bipush 10, 2) := dk_16 10 (dk_at dksX1_init_2 14 rfl rfl)
theorem dX1_init_64 : decode cX1_init 64 = .ok (.iconst 1, 1) := dk_4 (dk_at dksX1_init_2 16 rfl rfl)
theorem dX1_init_65 : decode cX1_init 65 = .ok (.invokespecial 44, 3) := dk_183 0 44 (dk_at dksX1_init_2 17 rfl rfl)
theorem dX1_init_68 : decode cX1_init 68 = .ok (.putfield 47, 3) := dk_181 0 47 (dk_at dksX1_init_2 20 rfl rfl)
theorem dX1_init_71 : decode cX1_init 71 = .ok (.aload_n 0, 1) := dk_42 (dk_at dksX1_init_2 23 rfl rfl)
theorem dX1_init_72 : decode cX1_init 72 = .ok (.iconst 5, 1) := dk_8 (dk_at dksX1_init_3 0 rfl rfl)
theorem dX1_init_73 : decode cX1_init 73 = .ok (.anewarray 51, 3) := dk_189 0 51 (dk_at dksX1_init_3 1 rfl rfl)
theorem dX1_init_76 : decode cX1_init 76 = .ok (.dup, 1) := dk_89 (dk_at dksX1_init_3 4 rfl rfl)
theorem dX1_init_77 : decode cX1_init 77 = .ok (.iconst 0, 1) := dk_3 (dk_at dksX1_init_3 5 rfl rfl)
theorem dX1_init_78 : decode cX1_init 78 = .ok (.new 53, 3) := dk_187 0 53 (dk_at dksX1_init_3 6 rfl rfl)
theorem dX1_init_81 : decode cX1_init 81 = .ok (.dup, 1) := dk_89 (dk_at dksX1_init_3 9 rfl rfl)
theorem dX1_init_82 : decode cX1_init 82 = .ok (.bipush 13, 2) := dk_16 13 (dk_at dksX1_init_3 10 rfl rfl)
theorem dX1_init_84 : decode cX1_init 84 = .ok (.iconst 0, 1) := dk_3 (dk_at dksX1_init_3 12 rfl rfl)
theorem dX1_init_85 : decode cX1_init 85 = .ok (.iconst 1, 1) := dk_4 (dk_at dksX1_init_3 13 rfl rfl)
theorem dX1_init_86 : decode cX1_init 86 = .ok (.iconst 0, 1) := dk_3 (dk_at dksX1_init_3 14 rfl rfl)
theorem dX1_init_87 : decode cX1_init 87 = .ok (.invokespecial 55, 3) := dk_183 0 55 (dk_at dksX1_init_3 15 rfl rfl)
theorem dX1_init_90 : decode cX1_init 90 = .ok (.aastore, 1) := dk_83 (dk_at dksX1_init_3 18 rfl rfl)
theorem dX1_init_91 : decode cX1_init 91 = .ok (.dup, 1) := dk_89 (dk_at dksX1_init_3 19 rfl rfl)
theorem dX1_init_92 : decode cX1_init 92 = .ok (.iconst 1, 1) := dk_4 (dk_at dksX1_init_3 20 rfl rfl)
theorem dX1_init_93 : decode cX1_init 93 = .ok (.new 53, 3) := dk_187 0 53 (dk_at dksX1_init_3 21 rfl rfl)
theorem dX1_init_96 : decode cX1_init 96 = .ok (.dup, 1) := dk_89 (dk_at dksX1_init_4 0 rfl rfl)
theorem dX1_init_97 : decode cX1_init 97 = .ok (.bipush 33, 2) := dk_16 33 (dk_at dksX1_init_4 1 rfl rfl)
theorem dX1_init_99 : decode cX1_init 99 = .ok (.iconst 0, 1) := dk_3 (dk_at dksX1_init_4 3 rfl rfl)
theorem dX1_init_100 : decode cX1_init 100 = .ok (.iconst 1, 1) := dk_4 (dk_at dksX1_init_4 4 rfl rfl)
theorem dX1_init_101 : decode cX1_init 101 = .ok (.iconst 1, 1) := dk_4 (dk_at dksX1_init_4 5 rfl rfl)
theorem dX1_init_102 : decode cX1_init 102 = .ok (.invokespecial 55, 3) := dk_183 0 55 (dk_at dksX1_init_4 6 rfl rfl)
theorem dX1_init_105 : decode cX1_init 105 = .ok (.aastore, 1) := dk_83 (dk_at dksX1_init_4 9 rfl rfl)
theorem dX1_init_106 : decode cX1_init 106 = .ok (.dup, 1) := dk_89 (dk_at dksX1_init_4 10 rfl rfl)
theorem dX1_init_107 : decode cX1_init 107 = .ok (.iconst 2, 1) := dk_5 (dk_at dksX1_init_4 11 rfl rfl)
theorem dX1_init_108 : decode cX1_init 108 = .ok (.new 53, 3) := dk_187 0 53 (dk_at dksX1_init_4 12 rfl rfl)
theorem dX1_init_111 : decode cX1_init 111 = .ok (.dup, 1) := dk_89 (dk_at dksX1_init_4 15 rfl rfl)
theorem dX1_init_112 : decode cX1_init 112 = .ok (.bipush 11, 2) := dk_16 11 (dk_at dksX1_init_4 16 rfl rfl)
theorem dX1_init_114 : decode cX1_init 114 = .ok (.iconst 1, 1) := dk_4 (dk_at dksX1_init_4 18 rfl rfl)
theorem dX1_init_115 : decode cX1_init 115 = .ok (.iconst 1, 1) := dk_4 (dk_at dksX1_init_4 19 rfl rfl)
theorem dX1_init_116 : decode cX1_init 116 = .ok (.iconst 0, 1) := dk_3 (dk_at dksX1_init_4 20 rfl rfl)
theorem dX1_init_117 : decode cX1_init 117 = .ok (.invokespecial 55, 3) := dk_183 0 55 (dk_at dksX1_init_4 21 rfl rfl)
theorem dX1_init_120 : decode cX1_init 120 = .ok (.aastore, 1) := dk_83 (dk_at dksX1_init_5 0 rfl rfl)
theorem dX1_init_121 : decode cX1_init 121 = .ok (.dup, 1) := dk_89 (dk_at dksX1_init_5 1 rfl rfl)
theorem dX1_init_122 : decode cX1_init 122 = .ok (.iconst 3, 1) := dk_6 (dk_at dksX1_init_5 2 rfl rfl)
theorem dX1_init_123 : decode cX1_init 123 = .ok (.new 58, 3) := dk_187 0 58 (dk_at dksX1_init_5 3 rfl rfl)
theorem dX1_init_126 : decode cX1_init 126 = .ok (.dup, 1) := dk_89 (dk_at dksX1_init_5 6 rfl rfl)
theorem dX1_init_127 : decode cX1_init 127 = .ok (.iconst 1, 1) := dk_4 (dk_at dksX1_init_5 7 rfl rfl)
theorem dX1_init_128 : decode cX1_init 128 = .ok (.iconst 2, 1) := dk_5 (dk_at dksX1_init_5 8 rfl rfl)
theorem dX1_init_129 : decode cX1_init 129 = .ok (.invokespecial 60, 3) := dk_183 0 60 (dk_at dksX1_init_5 9 rfl rfl)
theorem dX1_init_132 : decode cX1_init 132 = .ok (.aastore, 1) := dk_83 (dk_at dksX1_init_5 12 rfl rfl)
theorem dX1_init_133 : decode cX1_init 133 = .ok (.dup, 1) := dk_89 (dk_at dksX1_init_5 13 rfl rfl)
theorem dX1_init_134 : decode cX1_init 134 = .ok (.iconst 4, 1) := dk_7 (dk_at dksX1_init_5 14 rfl rfl)
theorem dX1_init_135 : decode cX1_init 135 = .ok (.new 58, 3) := dk_187 0 58 (dk_at dksX1_init_5 15 rfl rfl)
theorem dX1_init_138 : decode cX1_init 138 = .ok (.dup, 1) := dk_89 (dk_at dksX1_init_5 18 rfl rfl)
theorem dX1_init_139 : decode cX1_init 139 = .ok (.bipush 30, 2) := dk_16 30 (dk_at dksX1_init_5 19 rfl rfl)
theorem dX1_init_141 : decode cX1_init 141 = .ok (.iconst 1, 1) := dk_4 (dk_at dksX1_init_5 21 rfl rfl)
theorem dX1_init_142 : decode cX1_init 142 = .ok (.invokespecial 60, 3) := dk_183 0 60 (dk_at dksX1_init_6 0 rfl rfl)
theorem dX1_init_145 : decode cX1_init 145 = .ok (.aastore, 1) := dk_83 (dk_at dksX1_init_6 3 rfl rfl)
theorem dX1_init_146 : decode cX1_init 146 = .ok (.invokevirtual 63, 3) := dk_182 0 63 (dk_at dksX1_init_6 4 rfl rfl)
theorem dX1_init_149 : decode cX1_init 149 = .ok (.aload_n 0, 1) := dk_42 (dk_at dksX1_init_6 7 rfl rfl)
theorem dX1_init_150 : decode cX1_init 150 = .ok (.getfield 47, 3) := dk_180 0 47 (dk_at dksX1_init_6 8 rfl rfl)
theorem dX1_init_153 : decode cX1_init 153 = .ok (.bipush 30, 2) := dk_16 30 (dk_at dksX1_init_6 11 rfl rfl)
theorem dX1_init_155 : decode cX1_init 155 = .ok (.putfield 67, 3) := dk_181 0 67 (dk_at dksX1_init_6 13 rfl rfl)
theorem dX1_init_158 : decode cX1_init 158 = .ok (.aload_n 0, 1) := dk_42 (dk_at dksX1_init_6 16 rfl rfl)
theorem dX1_init_159 : decode cX1_init 159 = .ok (.getfield 47, 3) := dk_180 0 47 (dk_at dksX1_init_6 17 rfl rfl)
theorem dX1_init_162 : decode cX1_init 162 = .ok (.invokevirtual 71, 3) := dk_182 0 71 (dk_at dksX1_init_6 20 rfl rfl)
theorem dX1_init_165 : decode cX1_init 165 = .ok (.return_, 1) := dk_177 (dk_at dksX1_init_6 23 rfl rfl)
abbrev cX1_lays : ByteArray := prog_1_method_4_code
def yX1_lays : MethodName := ⟨RX1, "lays", "([LMirrorDoors$Cell;)V"⟩
def dkwX1_lays_1 : List UInt8 := [180, 0, 74, 25, 5, 180, 0, 78, 25, 5, 83, 132, 4, 1, 167, 255, 226, 177]
abbrev dktX1_lays_1 : List UInt8 := dkwX1_lays_1 ++ []
def dkwX1_lays_0 : List UInt8 := [43, 77, 44, 190, 62, 3, 54, 4, 21, 4, 29, 162, 0, 30, 44, 21, 4, 50, 58, 5, 42, 180, 0, 47]
abbrev dktX1_lays_0 : List UInt8 := dkwX1_lays_0 ++ dktX1_lays_1
theorem dksX1_lays_0 : cX1_lays.data.toList.drop 0 = dktX1_lays_0 := by decide +kernel
theorem dksX1_lays_1 : cX1_lays.data.toList.drop 24 = dktX1_lays_1 := dk_seg dksX1_lays_0 24 rfl rfl
theorem dX1_lays_0 : decode cX1_lays 0 = .ok (.aload_n 1, 1) := dk_43 (dk_at dksX1_lays_0 0 rfl rfl)
theorem dX1_lays_1 : decode cX1_lays 1 = .ok (.astore_n 2, 1) := dk_77 (dk_at dksX1_lays_0 1 rfl rfl)
theorem dX1_lays_2 : decode cX1_lays 2 = .ok (.aload_n 2, 1) := dk_44 (dk_at dksX1_lays_0 2 rfl rfl)
theorem dX1_lays_3 : decode cX1_lays 3 = .ok (.arraylength, 1) := dk_190 (dk_at dksX1_lays_0 3 rfl rfl)
theorem dX1_lays_4 : decode cX1_lays 4 = .ok (.istore_n 3, 1) := dk_62 (dk_at dksX1_lays_0 4 rfl rfl)
theorem dX1_lays_5 : decode cX1_lays 5 = .ok (.iconst 0, 1) := dk_3 (dk_at dksX1_lays_0 5 rfl rfl)
theorem dX1_lays_6 : decode cX1_lays 6 = .ok (.istore 4, 2) := dk_54 4 (dk_at dksX1_lays_0 6 rfl rfl)
theorem dX1_lays_8 : decode cX1_lays 8 = .ok (.iload 4, 2) := dk_21 4 (dk_at dksX1_lays_0 8 rfl rfl)
theorem dX1_lays_10 : decode cX1_lays 10 = .ok (.iload_n 3, 1) := dk_29 (dk_at dksX1_lays_0 10 rfl rfl)
theorem dX1_lays_11 : decode cX1_lays 11 = .ok (.if_icmp .ge 30, 3) := dk_162 0 30 (dk_at dksX1_lays_0 11 rfl rfl)
theorem dX1_lays_14 : decode cX1_lays 14 = .ok (.aload_n 2, 1) := dk_44 (dk_at dksX1_lays_0 14 rfl rfl)
theorem dX1_lays_15 : decode cX1_lays 15 = .ok (.iload 4, 2) := dk_21 4 (dk_at dksX1_lays_0 15 rfl rfl)
theorem dX1_lays_17 : decode cX1_lays 17 = .ok (.aaload, 1) := dk_50 (dk_at dksX1_lays_0 17 rfl rfl)
theorem dX1_lays_18 : decode cX1_lays 18 = .ok (.astore 5, 2) := dk_58 5 (dk_at dksX1_lays_0 18 rfl rfl)
theorem dX1_lays_20 : decode cX1_lays 20 = .ok (.aload_n 0, 1) := dk_42 (dk_at dksX1_lays_0 20 rfl rfl)
theorem dX1_lays_21 : decode cX1_lays 21 = .ok (.getfield 47, 3) := dk_180 0 47 (dk_at dksX1_lays_0 21 rfl rfl)
theorem dX1_lays_24 : decode cX1_lays 24 = .ok (.getfield 74, 3) := dk_180 0 74 (dk_at dksX1_lays_1 0 rfl rfl)
theorem dX1_lays_27 : decode cX1_lays 27 = .ok (.aload 5, 2) := dk_25 5 (dk_at dksX1_lays_1 3 rfl rfl)
theorem dX1_lays_29 : decode cX1_lays 29 = .ok (.getfield 78, 3) := dk_180 0 78 (dk_at dksX1_lays_1 5 rfl rfl)
theorem dX1_lays_32 : decode cX1_lays 32 = .ok (.aload 5, 2) := dk_25 5 (dk_at dksX1_lays_1 8 rfl rfl)
theorem dX1_lays_34 : decode cX1_lays 34 = .ok (.aastore, 1) := dk_83 (dk_at dksX1_lays_1 10 rfl rfl)
theorem dX1_lays_35 : decode cX1_lays 35 = .ok (.iinc 4 1, 3) := dk_132 4 1 (dk_at dksX1_lays_1 11 rfl rfl)
theorem dX1_lays_38 : decode cX1_lays 38 = .ok (.goto (-30), 3) := dk_167 255 226 (dk_at dksX1_lays_1 14 rfl rfl)
theorem dX1_lays_41 : decode cX1_lays 41 = .ok (.return_, 1) := dk_177 (dk_at dksX1_lays_1 17 rfl rfl)
abbrev cX1_isIn : ByteArray := prog_1_method_1_code
def yX1_isIn : MethodName := ⟨RX1, "isIn", "(III)Z"⟩
def dkwX1_isIn_0 : List UInt8 := [26, 27, 161, 0, 12, 26, 28, 163, 0, 7, 4, 167, 0, 4, 3, 172]
abbrev dktX1_isIn_0 : List UInt8 := dkwX1_isIn_0 ++ []
theorem dksX1_isIn_0 : cX1_isIn.data.toList.drop 0 = dktX1_isIn_0 := by decide +kernel
theorem dX1_isIn_0 : decode cX1_isIn 0 = .ok (.iload_n 0, 1) := dk_26 (dk_at dksX1_isIn_0 0 rfl rfl)
theorem dX1_isIn_1 : decode cX1_isIn 1 = .ok (.iload_n 1, 1) := dk_27 (dk_at dksX1_isIn_0 1 rfl rfl)
theorem dX1_isIn_2 : decode cX1_isIn 2 = .ok (.if_icmp .lt 12, 3) := dk_161 0 12 (dk_at dksX1_isIn_0 2 rfl rfl)
theorem dX1_isIn_5 : decode cX1_isIn 5 = .ok (.iload_n 0, 1) := dk_26 (dk_at dksX1_isIn_0 5 rfl rfl)
theorem dX1_isIn_6 : decode cX1_isIn 6 = .ok (.iload_n 2, 1) := dk_28 (dk_at dksX1_isIn_0 6 rfl rfl)
theorem dX1_isIn_7 : decode cX1_isIn 7 = .ok (.if_icmp .gt 7, 3) := dk_163 0 7 (dk_at dksX1_isIn_0 7 rfl rfl)
theorem dX1_isIn_10 : decode cX1_isIn 10 = .ok (.iconst 1, 1) := dk_4 (dk_at dksX1_isIn_0 10 rfl rfl)
theorem dX1_isIn_11 : decode cX1_isIn 11 = .ok (.goto 4, 3) := dk_167 0 4 (dk_at dksX1_isIn_0 11 rfl rfl)
theorem dX1_isIn_14 : decode cX1_isIn 14 = .ok (.iconst 0, 1) := dk_3 (dk_at dksX1_isIn_0 14 rfl rfl)
theorem dX1_isIn_15 : decode cX1_isIn 15 = .ok (.ireturn, 1) := dk_172 (dk_at dksX1_isIn_0 15 rfl rfl)
abbrev cX1_load : ByteArray := prog_1_method_11_code
def yX1_load : MethodName := ⟨RX1, "load", "()I"⟩
def dkwX1_load_2 : List UInt8 := [180, 0, 143, 96, 100, 172]
abbrev dktX1_load_2 : List UInt8 := dkwX1_load_2 ++ []
def dkwX1_load_1 : List UInt8 := [182, 0, 96, 4, 182, 0, 131, 182, 0, 135, 172, 77, 16, 226, 16, 8, 44, 180, 0, 140, 104, 44]
abbrev dktX1_load_1 : List UInt8 := dkwX1_load_1 ++ dktX1_load_2
def dkwX1_load_0 : List UInt8 := [42, 180, 0, 120, 60, 42, 3, 181, 0, 120, 42, 187, 0, 123, 89, 42, 27, 183, 0, 125, 182, 0, 128]
abbrev dktX1_load_0 : List UInt8 := dkwX1_load_0 ++ dktX1_load_1
theorem dksX1_load_0 : cX1_load.data.toList.drop 0 = dktX1_load_0 := by decide +kernel
theorem dksX1_load_1 : cX1_load.data.toList.drop 23 = dktX1_load_1 := dk_seg dksX1_load_0 23 rfl rfl
theorem dksX1_load_2 : cX1_load.data.toList.drop 45 = dktX1_load_2 := dk_seg dksX1_load_1 22 rfl rfl
theorem dX1_load_0 : decode cX1_load 0 = .ok (.aload_n 0, 1) := dk_42 (dk_at dksX1_load_0 0 rfl rfl)
theorem dX1_load_1 : decode cX1_load 1 = .ok (.getfield 120, 3) := dk_180 0 120 (dk_at dksX1_load_0 1 rfl rfl)
theorem dX1_load_4 : decode cX1_load 4 = .ok (.istore_n 1, 1) := dk_60 (dk_at dksX1_load_0 4 rfl rfl)
theorem dX1_load_5 : decode cX1_load 5 = .ok (.aload_n 0, 1) := dk_42 (dk_at dksX1_load_0 5 rfl rfl)
theorem dX1_load_6 : decode cX1_load 6 = .ok (.iconst 0, 1) := dk_3 (dk_at dksX1_load_0 6 rfl rfl)
theorem dX1_load_7 : decode cX1_load 7 = .ok (.putfield 120, 3) := dk_181 0 120 (dk_at dksX1_load_0 7 rfl rfl)
theorem dX1_load_10 : decode cX1_load 10 = .ok (.aload_n 0, 1) := dk_42 (dk_at dksX1_load_0 10 rfl rfl)
theorem dX1_load_11 : decode cX1_load 11 = .ok (.new 123, 3) := dk_187 0 123 (dk_at dksX1_load_0 11 rfl rfl)
theorem dX1_load_14 : decode cX1_load 14 = .ok (.dup, 1) := dk_89 (dk_at dksX1_load_0 14 rfl rfl)
theorem dX1_load_15 : decode cX1_load 15 = .ok (.aload_n 0, 1) := dk_42 (dk_at dksX1_load_0 15 rfl rfl)
theorem dX1_load_16 : decode cX1_load 16 = .ok (.iload_n 1, 1) := dk_27 (dk_at dksX1_load_0 16 rfl rfl)
theorem dX1_load_17 : decode cX1_load 17 = .ok (.invokespecial 125, 3) := dk_183 0 125 (dk_at dksX1_load_0 17 rfl rfl)
theorem dX1_load_20 : decode cX1_load 20 = .ok (.invokevirtual 128, 3) := dk_182 0 128 (dk_at dksX1_load_0 20 rfl rfl)
theorem dX1_load_23 : decode cX1_load 23 = .ok (.invokevirtual 96, 3) := dk_182 0 96 (dk_at dksX1_load_1 0 rfl rfl)
theorem dX1_load_26 : decode cX1_load 26 = .ok (.iconst 1, 1) := dk_4 (dk_at dksX1_load_1 3 rfl rfl)
theorem dX1_load_27 : decode cX1_load 27 = .ok (.invokevirtual 131, 3) := dk_182 0 131 (dk_at dksX1_load_1 4 rfl rfl)
theorem dX1_load_30 : decode cX1_load 30 = .ok (.invokevirtual 135, 3) := dk_182 0 135 (dk_at dksX1_load_1 7 rfl rfl)
theorem dX1_load_33 : decode cX1_load 33 = .ok (.ireturn, 1) := dk_172 (dk_at dksX1_load_1 10 rfl rfl)
theorem dX1_load_34 : decode cX1_load 34 = .ok (.astore_n 2, 1) := dk_77 (dk_at dksX1_load_1 11 rfl rfl)
theorem dX1_load_35 : decode cX1_load 35 = .ok (.bipush (-30), 2) := dk_16 226 (dk_at dksX1_load_1 12 rfl rfl)
theorem dX1_load_37 : decode cX1_load 37 = .ok (.bipush 8, 2) := dk_16 8 (dk_at dksX1_load_1 14 rfl rfl)
theorem dX1_load_39 : decode cX1_load 39 = .ok (.aload_n 2, 1) := dk_44 (dk_at dksX1_load_1 16 rfl rfl)
theorem dX1_load_40 : decode cX1_load 40 = .ok (.getfield 140, 3) := dk_180 0 140 (dk_at dksX1_load_1 17 rfl rfl)
theorem dX1_load_43 : decode cX1_load 43 = .ok (.imul, 1) := dk_104 (dk_at dksX1_load_1 20 rfl rfl)
theorem dX1_load_44 : decode cX1_load 44 = .ok (.aload_n 2, 1) := dk_44 (dk_at dksX1_load_1 21 rfl rfl)
theorem dX1_load_45 : decode cX1_load 45 = .ok (.getfield 143, 3) := dk_180 0 143 (dk_at dksX1_load_2 0 rfl rfl)
theorem dX1_load_48 : decode cX1_load 48 = .ok (.iadd, 1) := dk_96 (dk_at dksX1_load_2 3 rfl rfl)
theorem dX1_load_49 : decode cX1_load 49 = .ok (.isub, 1) := dk_100 (dk_at dksX1_load_2 4 rfl rfl)
theorem dX1_load_50 : decode cX1_load 50 = .ok (.ireturn, 1) := dk_172 (dk_at dksX1_load_2 5 rfl rfl)
abbrev cX1_change : ByteArray := prog_1_method_5_code
def yX1_change : MethodName := ⟨RX1, "change", "(LMirrorDoors$World;)LMirrorDoors$World;"⟩
def dkwX1_change_1 : List UInt8 := [42, 180, 0, 47, 182, 0, 89, 42, 43, 181, 0, 47, 43, 176]
abbrev dktX1_change_1 : List UInt8 := dkwX1_change_1 ++ []
def dkwX1_change_0 : List UInt8 := [42, 180, 0, 28, 182, 0, 81, 16, 10, 160, 0, 11, 42, 180, 0, 28, 182, 0, 85, 87, 42, 180, 0, 28]
abbrev dktX1_change_0 : List UInt8 := dkwX1_change_0 ++ dktX1_change_1
theorem dksX1_change_0 : cX1_change.data.toList.drop 0 = dktX1_change_0 := by decide +kernel
theorem dksX1_change_1 : cX1_change.data.toList.drop 24 = dktX1_change_1 := dk_seg dksX1_change_0 24 rfl rfl
theorem dX1_change_0 : decode cX1_change 0 = .ok (.aload_n 0, 1) := dk_42 (dk_at dksX1_change_0 0 rfl rfl)
theorem dX1_change_1 : decode cX1_change 1 = .ok (.getfield 28, 3) := dk_180 0 28 (dk_at dksX1_change_0 1 rfl rfl)
theorem dX1_change_4 : decode cX1_change 4 = .ok (.invokevirtual 81, 3) := dk_182 0 81 (dk_at dksX1_change_0 4 rfl rfl)
theorem dX1_change_7 : decode cX1_change 7 = .ok (.bipush 10, 2) := dk_16 10 (dk_at dksX1_change_0 7 rfl rfl)
theorem dX1_change_9 : decode cX1_change 9 = .ok (.if_icmp .ne 11, 3) := dk_160 0 11 (dk_at dksX1_change_0 9 rfl rfl)
theorem dX1_change_12 : decode cX1_change 12 = .ok (.aload_n 0, 1) := dk_42 (dk_at dksX1_change_0 12 rfl rfl)
theorem dX1_change_13 : decode cX1_change 13 = .ok (.getfield 28, 3) := dk_180 0 28 (dk_at dksX1_change_0 13 rfl rfl)
theorem dX1_change_16 : decode cX1_change 16 = .ok (.invokevirtual 85, 3) := dk_182 0 85 (dk_at dksX1_change_0 16 rfl rfl)
theorem dX1_change_19 : decode cX1_change 19 = .ok (.pop, 1) := dk_87 (dk_at dksX1_change_0 19 rfl rfl)
theorem dX1_change_20 : decode cX1_change 20 = .ok (.aload_n 0, 1) := dk_42 (dk_at dksX1_change_0 20 rfl rfl)
theorem dX1_change_21 : decode cX1_change 21 = .ok (.getfield 28, 3) := dk_180 0 28 (dk_at dksX1_change_0 21 rfl rfl)
theorem dX1_change_24 : decode cX1_change 24 = .ok (.aload_n 0, 1) := dk_42 (dk_at dksX1_change_1 0 rfl rfl)
theorem dX1_change_25 : decode cX1_change 25 = .ok (.getfield 47, 3) := dk_180 0 47 (dk_at dksX1_change_1 1 rfl rfl)
theorem dX1_change_28 : decode cX1_change 28 = .ok (.invokevirtual 89, 3) := dk_182 0 89 (dk_at dksX1_change_1 4 rfl rfl)
theorem dX1_change_31 : decode cX1_change 31 = .ok (.aload_n 0, 1) := dk_42 (dk_at dksX1_change_1 7 rfl rfl)
theorem dX1_change_32 : decode cX1_change 32 = .ok (.aload_n 1, 1) := dk_43 (dk_at dksX1_change_1 8 rfl rfl)
theorem dX1_change_33 : decode cX1_change 33 = .ok (.putfield 47, 3) := dk_181 0 47 (dk_at dksX1_change_1 9 rfl rfl)
theorem dX1_change_36 : decode cX1_change 36 = .ok (.aload_n 1, 1) := dk_43 (dk_at dksX1_change_1 12 rfl rfl)
theorem dX1_change_37 : decode cX1_change 37 = .ok (.areturn, 1) := dk_176 (dk_at dksX1_change_1 13 rfl rfl)
abbrev cX1_pass : ByteArray := prog_1_method_21_code
def yX1_pass : MethodName := ⟨RX1, "pass", "()I"⟩
def dkwX1_pass_1 : List UInt8 := [182, 0, 205, 153, 0, 8, 16, 250, 167, 0, 5, 16, 246, 172, 42, 182, 0, 117, 1, 182, 0, 202, 172]
abbrev dktX1_pass_1 : List UInt8 := dkwX1_pass_1 ++ []
def dkwX1_pass_0 : List UInt8 := [42, 180, 0, 47, 182, 0, 205, 154, 0, 13, 42, 180, 0, 47, 182, 0, 209, 153, 0, 21, 42, 180, 0, 47]
abbrev dktX1_pass_0 : List UInt8 := dkwX1_pass_0 ++ dktX1_pass_1
theorem dksX1_pass_0 : cX1_pass.data.toList.drop 0 = dktX1_pass_0 := by decide +kernel
theorem dksX1_pass_1 : cX1_pass.data.toList.drop 24 = dktX1_pass_1 := dk_seg dksX1_pass_0 24 rfl rfl
theorem dX1_pass_0 : decode cX1_pass 0 = .ok (.aload_n 0, 1) := dk_42 (dk_at dksX1_pass_0 0 rfl rfl)
theorem dX1_pass_1 : decode cX1_pass 1 = .ok (.getfield 47, 3) := dk_180 0 47 (dk_at dksX1_pass_0 1 rfl rfl)
theorem dX1_pass_4 : decode cX1_pass 4 = .ok (.invokevirtual 205, 3) := dk_182 0 205 (dk_at dksX1_pass_0 4 rfl rfl)
theorem dX1_pass_7 : decode cX1_pass 7 = .ok (.ifCond .ne 13, 3) := dk_154 0 13 (dk_at dksX1_pass_0 7 rfl rfl)
theorem dX1_pass_10 : decode cX1_pass 10 = .ok (.aload_n 0, 1) := dk_42 (dk_at dksX1_pass_0 10 rfl rfl)
theorem dX1_pass_11 : decode cX1_pass 11 = .ok (.getfield 47, 3) := dk_180 0 47 (dk_at dksX1_pass_0 11 rfl rfl)
theorem dX1_pass_14 : decode cX1_pass 14 = .ok (.invokevirtual 209, 3) := dk_182 0 209 (dk_at dksX1_pass_0 14 rfl rfl)
theorem dX1_pass_17 : decode cX1_pass 17 = .ok (.ifCond .eq 21, 3) := dk_153 0 21 (dk_at dksX1_pass_0 17 rfl rfl)
theorem dX1_pass_20 : decode cX1_pass 20 = .ok (.aload_n 0, 1) := dk_42 (dk_at dksX1_pass_0 20 rfl rfl)
theorem dX1_pass_21 : decode cX1_pass 21 = .ok (.getfield 47, 3) := dk_180 0 47 (dk_at dksX1_pass_0 21 rfl rfl)
theorem dX1_pass_24 : decode cX1_pass 24 = .ok (.invokevirtual 205, 3) := dk_182 0 205 (dk_at dksX1_pass_1 0 rfl rfl)
theorem dX1_pass_27 : decode cX1_pass 27 = .ok (.ifCond .eq 8, 3) := dk_153 0 8 (dk_at dksX1_pass_1 3 rfl rfl)
theorem dX1_pass_30 : decode cX1_pass 30 = .ok (.bipush (-6), 2) := dk_16 250 (dk_at dksX1_pass_1 6 rfl rfl)
theorem dX1_pass_32 : decode cX1_pass 32 = .ok (.goto 5, 3) := dk_167 0 5 (dk_at dksX1_pass_1 8 rfl rfl)
theorem dX1_pass_35 : decode cX1_pass 35 = .ok (.bipush (-10), 2) := dk_16 246 (dk_at dksX1_pass_1 11 rfl rfl)
theorem dX1_pass_37 : decode cX1_pass 37 = .ok (.ireturn, 1) := dk_172 (dk_at dksX1_pass_1 13 rfl rfl)
theorem dX1_pass_38 : decode cX1_pass 38 = .ok (.aload_n 0, 1) := dk_42 (dk_at dksX1_pass_1 14 rfl rfl)
theorem dX1_pass_39 : decode cX1_pass 39 = .ok (.invokevirtual 117, 3) := dk_182 0 117 (dk_at dksX1_pass_1 15 rfl rfl)
theorem dX1_pass_42 : decode cX1_pass 42 = .ok (.aconst_null, 1) := dk_1 (dk_at dksX1_pass_1 18 rfl rfl)
theorem dX1_pass_43 : decode cX1_pass 43 = .ok (.invokevirtual 202, 3) := dk_182 0 202 (dk_at dksX1_pass_1 19 rfl rfl)
theorem dX1_pass_46 : decode cX1_pass 46 = .ok (.ireturn, 1) := dk_172 (dk_at dksX1_pass_1 22 rfl rfl)
abbrev cX1_change_2 : ByteArray := prog_1_method_6_code
def yX1_change_2 : MethodName := ⟨RX1, "change", "()LMirrorDoors$World;"⟩
def dkwX1_change_2_0 : List UInt8 := [42, 187, 0, 32, 89, 42, 180, 0, 47, 183, 0, 93, 182, 0, 96, 176]
abbrev dktX1_change_2_0 : List UInt8 := dkwX1_change_2_0 ++ []
theorem dksX1_change_2_0 : cX1_change_2.data.toList.drop 0 = dktX1_change_2_0 := by decide +kernel
theorem dX1_change_2_0 : decode cX1_change_2 0 = .ok (.aload_n 0, 1) := dk_42 (dk_at dksX1_change_2_0 0 rfl rfl)
theorem dX1_change_2_1 : decode cX1_change_2 1 = .ok (.new 32, 3) := dk_187 0 32 (dk_at dksX1_change_2_0 1 rfl rfl)
theorem dX1_change_2_4 : decode cX1_change_2 4 = .ok (.dup, 1) := dk_89 (dk_at dksX1_change_2_0 4 rfl rfl)
theorem dX1_change_2_5 : decode cX1_change_2 5 = .ok (.aload_n 0, 1) := dk_42 (dk_at dksX1_change_2_0 5 rfl rfl)
theorem dX1_change_2_6 : decode cX1_change_2 6 = .ok (.getfield 47, 3) := dk_180 0 47 (dk_at dksX1_change_2_0 6 rfl rfl)
theorem dX1_change_2_9 : decode cX1_change_2 9 = .ok (.invokespecial 93, 3) := dk_183 0 93 (dk_at dksX1_change_2_0 9 rfl rfl)
theorem dX1_change_2_12 : decode cX1_change_2 12 = .ok (.invokevirtual 96, 3) := dk_182 0 96 (dk_at dksX1_change_2_0 12 rfl rfl)
theorem dX1_change_2_15 : decode cX1_change_2 15 = .ok (.areturn, 1) := dk_176 (dk_at dksX1_change_2_0 15 rfl rfl)
abbrev cX1_undo : ByteArray := prog_1_method_22_code
def yX1_undo : MethodName := ⟨RX1, "undo", "()I"⟩
def dkwX1_undo_1 : List UInt8 := [181, 0, 47, 42, 180, 0, 28, 182, 0, 81, 172]
abbrev dktX1_undo_1 : List UInt8 := dkwX1_undo_1 ++ []
def dkwX1_undo_0 : List UInt8 := [42, 180, 0, 28, 182, 0, 212, 153, 0, 5, 2, 172, 42, 42, 180, 0, 28, 182, 0, 214, 192, 0, 32]
abbrev dktX1_undo_0 : List UInt8 := dkwX1_undo_0 ++ dktX1_undo_1
theorem dksX1_undo_0 : cX1_undo.data.toList.drop 0 = dktX1_undo_0 := by decide +kernel
theorem dksX1_undo_1 : cX1_undo.data.toList.drop 23 = dktX1_undo_1 := dk_seg dksX1_undo_0 23 rfl rfl
theorem dX1_undo_0 : decode cX1_undo 0 = .ok (.aload_n 0, 1) := dk_42 (dk_at dksX1_undo_0 0 rfl rfl)
theorem dX1_undo_1 : decode cX1_undo 1 = .ok (.getfield 28, 3) := dk_180 0 28 (dk_at dksX1_undo_0 1 rfl rfl)
theorem dX1_undo_4 : decode cX1_undo 4 = .ok (.invokevirtual 212, 3) := dk_182 0 212 (dk_at dksX1_undo_0 4 rfl rfl)
theorem dX1_undo_7 : decode cX1_undo 7 = .ok (.ifCond .eq 5, 3) := dk_153 0 5 (dk_at dksX1_undo_0 7 rfl rfl)
theorem dX1_undo_10 : decode cX1_undo 10 = .ok (.iconst (-1), 1) := dk_2 (dk_at dksX1_undo_0 10 rfl rfl)
theorem dX1_undo_11 : decode cX1_undo 11 = .ok (.ireturn, 1) := dk_172 (dk_at dksX1_undo_0 11 rfl rfl)
theorem dX1_undo_12 : decode cX1_undo 12 = .ok (.aload_n 0, 1) := dk_42 (dk_at dksX1_undo_0 12 rfl rfl)
theorem dX1_undo_13 : decode cX1_undo 13 = .ok (.aload_n 0, 1) := dk_42 (dk_at dksX1_undo_0 13 rfl rfl)
theorem dX1_undo_14 : decode cX1_undo 14 = .ok (.getfield 28, 3) := dk_180 0 28 (dk_at dksX1_undo_0 14 rfl rfl)
theorem dX1_undo_17 : decode cX1_undo 17 = .ok (.invokevirtual 214, 3) := dk_182 0 214 (dk_at dksX1_undo_0 17 rfl rfl)
theorem dX1_undo_20 : decode cX1_undo 20 = .ok (.checkcast 32, 3) := dk_192 0 32 (dk_at dksX1_undo_0 20 rfl rfl)
theorem dX1_undo_23 : decode cX1_undo 23 = .ok (.putfield 47, 3) := dk_181 0 47 (dk_at dksX1_undo_1 0 rfl rfl)
theorem dX1_undo_26 : decode cX1_undo 26 = .ok (.aload_n 0, 1) := dk_42 (dk_at dksX1_undo_1 3 rfl rfl)
theorem dX1_undo_27 : decode cX1_undo 27 = .ok (.getfield 28, 3) := dk_180 0 28 (dk_at dksX1_undo_1 4 rfl rfl)
theorem dX1_undo_30 : decode cX1_undo 30 = .ok (.invokevirtual 81, 3) := dk_182 0 81 (dk_at dksX1_undo_1 7 rfl rfl)
theorem dX1_undo_33 : decode cX1_undo 33 = .ok (.ireturn, 1) := dk_172 (dk_at dksX1_undo_1 10 rfl rfl)
abbrev cX1_append : ByteArray := prog_1_method_26_code
def yX1_append : MethodName := ⟨RX1, "append", "(IIIII)I"⟩
def dkwX1_append_2 : List UInt8 := [172]
abbrev dktX1_append_2 : List UInt8 := dkwX1_append_2 ++ []
def dkwX1_append_1 : List UInt8 := [182, 0, 220, 42, 29, 182, 0, 220, 42, 21, 4, 182, 0, 220, 42, 21, 5, 182, 0, 220, 42, 180, 0, 120]
abbrev dktX1_append_1 : List UInt8 := dkwX1_append_1 ++ dktX1_append_2
def dkwX1_append_0 : List UInt8 := [42, 180, 0, 120, 16, 20, 96, 17, 2, 88, 164, 0, 6, 16, 236, 172, 42, 27, 182, 0, 220, 42, 28]
abbrev dktX1_append_0 : List UInt8 := dkwX1_append_0 ++ dktX1_append_1
theorem dksX1_append_0 : cX1_append.data.toList.drop 0 = dktX1_append_0 := by decide +kernel
theorem dksX1_append_1 : cX1_append.data.toList.drop 23 = dktX1_append_1 := dk_seg dksX1_append_0 23 rfl rfl
theorem dksX1_append_2 : cX1_append.data.toList.drop 47 = dktX1_append_2 := dk_seg dksX1_append_1 24 rfl rfl
theorem dX1_append_0 : decode cX1_append 0 = .ok (.aload_n 0, 1) := dk_42 (dk_at dksX1_append_0 0 rfl rfl)
theorem dX1_append_1 : decode cX1_append 1 = .ok (.getfield 120, 3) := dk_180 0 120 (dk_at dksX1_append_0 1 rfl rfl)
theorem dX1_append_4 : decode cX1_append 4 = .ok (.bipush 20, 2) := dk_16 20 (dk_at dksX1_append_0 4 rfl rfl)
theorem dX1_append_6 : decode cX1_append 6 = .ok (.iadd, 1) := dk_96 (dk_at dksX1_append_0 6 rfl rfl)
theorem dX1_append_7 : decode cX1_append 7 = .ok (.sipush 600, 3) := dk_17 2 88 (dk_at dksX1_append_0 7 rfl rfl)
theorem dX1_append_10 : decode cX1_append 10 = .ok (.if_icmp .le 6, 3) := dk_164 0 6 (dk_at dksX1_append_0 10 rfl rfl)
theorem dX1_append_13 : decode cX1_append 13 = .ok (.bipush (-20), 2) := dk_16 236 (dk_at dksX1_append_0 13 rfl rfl)
theorem dX1_append_15 : decode cX1_append 15 = .ok (.ireturn, 1) := dk_172 (dk_at dksX1_append_0 15 rfl rfl)
theorem dX1_append_16 : decode cX1_append 16 = .ok (.aload_n 0, 1) := dk_42 (dk_at dksX1_append_0 16 rfl rfl)
theorem dX1_append_17 : decode cX1_append 17 = .ok (.iload_n 1, 1) := dk_27 (dk_at dksX1_append_0 17 rfl rfl)
theorem dX1_append_18 : decode cX1_append 18 = .ok (.invokevirtual 220, 3) := dk_182 0 220 (dk_at dksX1_append_0 18 rfl rfl)
theorem dX1_append_21 : decode cX1_append 21 = .ok (.aload_n 0, 1) := dk_42 (dk_at dksX1_append_0 21 rfl rfl)
theorem dX1_append_22 : decode cX1_append 22 = .ok (.iload_n 2, 1) := dk_28 (dk_at dksX1_append_0 22 rfl rfl)
theorem dX1_append_23 : decode cX1_append 23 = .ok (.invokevirtual 220, 3) := dk_182 0 220 (dk_at dksX1_append_1 0 rfl rfl)
theorem dX1_append_26 : decode cX1_append 26 = .ok (.aload_n 0, 1) := dk_42 (dk_at dksX1_append_1 3 rfl rfl)
theorem dX1_append_27 : decode cX1_append 27 = .ok (.iload_n 3, 1) := dk_29 (dk_at dksX1_append_1 4 rfl rfl)
theorem dX1_append_28 : decode cX1_append 28 = .ok (.invokevirtual 220, 3) := dk_182 0 220 (dk_at dksX1_append_1 5 rfl rfl)
theorem dX1_append_31 : decode cX1_append 31 = .ok (.aload_n 0, 1) := dk_42 (dk_at dksX1_append_1 8 rfl rfl)
theorem dX1_append_32 : decode cX1_append 32 = .ok (.iload 4, 2) := dk_21 4 (dk_at dksX1_append_1 9 rfl rfl)
theorem dX1_append_34 : decode cX1_append 34 = .ok (.invokevirtual 220, 3) := dk_182 0 220 (dk_at dksX1_append_1 11 rfl rfl)
theorem dX1_append_37 : decode cX1_append 37 = .ok (.aload_n 0, 1) := dk_42 (dk_at dksX1_append_1 14 rfl rfl)
theorem dX1_append_38 : decode cX1_append 38 = .ok (.iload 5, 2) := dk_21 5 (dk_at dksX1_append_1 15 rfl rfl)
theorem dX1_append_40 : decode cX1_append 40 = .ok (.invokevirtual 220, 3) := dk_182 0 220 (dk_at dksX1_append_1 17 rfl rfl)
theorem dX1_append_43 : decode cX1_append 43 = .ok (.aload_n 0, 1) := dk_42 (dk_at dksX1_append_1 20 rfl rfl)
theorem dX1_append_44 : decode cX1_append 44 = .ok (.getfield 120, 3) := dk_180 0 120 (dk_at dksX1_append_1 21 rfl rfl)
theorem dX1_append_47 : decode cX1_append 47 = .ok (.ireturn, 1) := dk_172 (dk_at dksX1_append_2 0 rfl rfl)
abbrev cX1_put : ByteArray := prog_1_method_25_code
def yX1_put : MethodName := ⟨RX1, "put", "(I)V"⟩
def dkwX1_put_1 : List UInt8 := [180, 0, 120, 4, 96, 181, 0, 120, 132, 2, 248, 167, 255, 226, 177]
abbrev dktX1_put_1 : List UInt8 := dkwX1_put_1 ++ []
def dkwX1_put_0 : List UInt8 := [16, 24, 61, 28, 155, 0, 32, 42, 180, 0, 19, 42, 180, 0, 120, 27, 28, 122, 145, 84, 42, 89]
abbrev dktX1_put_0 : List UInt8 := dkwX1_put_0 ++ dktX1_put_1
theorem dksX1_put_0 : cX1_put.data.toList.drop 0 = dktX1_put_0 := by decide +kernel
theorem dksX1_put_1 : cX1_put.data.toList.drop 22 = dktX1_put_1 := dk_seg dksX1_put_0 22 rfl rfl
theorem dX1_put_0 : decode cX1_put 0 = .ok (.bipush 24, 2) := dk_16 24 (dk_at dksX1_put_0 0 rfl rfl)
theorem dX1_put_2 : decode cX1_put 2 = .ok (.istore_n 2, 1) := dk_61 (dk_at dksX1_put_0 2 rfl rfl)
theorem dX1_put_3 : decode cX1_put 3 = .ok (.iload_n 2, 1) := dk_28 (dk_at dksX1_put_0 3 rfl rfl)
theorem dX1_put_4 : decode cX1_put 4 = .ok (.ifCond .lt 32, 3) := dk_155 0 32 (dk_at dksX1_put_0 4 rfl rfl)
theorem dX1_put_7 : decode cX1_put 7 = .ok (.aload_n 0, 1) := dk_42 (dk_at dksX1_put_0 7 rfl rfl)
theorem dX1_put_8 : decode cX1_put 8 = .ok (.getfield 19, 3) := dk_180 0 19 (dk_at dksX1_put_0 8 rfl rfl)
theorem dX1_put_11 : decode cX1_put 11 = .ok (.aload_n 0, 1) := dk_42 (dk_at dksX1_put_0 11 rfl rfl)
theorem dX1_put_12 : decode cX1_put 12 = .ok (.getfield 120, 3) := dk_180 0 120 (dk_at dksX1_put_0 12 rfl rfl)
theorem dX1_put_15 : decode cX1_put 15 = .ok (.iload_n 1, 1) := dk_27 (dk_at dksX1_put_0 15 rfl rfl)
theorem dX1_put_16 : decode cX1_put 16 = .ok (.iload_n 2, 1) := dk_28 (dk_at dksX1_put_0 16 rfl rfl)
theorem dX1_put_17 : decode cX1_put 17 = .ok (.ishr, 1) := dk_122 (dk_at dksX1_put_0 17 rfl rfl)
theorem dX1_put_18 : decode cX1_put 18 = .ok (.i2b, 1) := dk_145 (dk_at dksX1_put_0 18 rfl rfl)
theorem dX1_put_19 : decode cX1_put 19 = .ok (.bastore, 1) := dk_84 (dk_at dksX1_put_0 19 rfl rfl)
theorem dX1_put_20 : decode cX1_put 20 = .ok (.aload_n 0, 1) := dk_42 (dk_at dksX1_put_0 20 rfl rfl)
theorem dX1_put_21 : decode cX1_put 21 = .ok (.dup, 1) := dk_89 (dk_at dksX1_put_0 21 rfl rfl)
theorem dX1_put_22 : decode cX1_put 22 = .ok (.getfield 120, 3) := dk_180 0 120 (dk_at dksX1_put_1 0 rfl rfl)
theorem dX1_put_25 : decode cX1_put 25 = .ok (.iconst 1, 1) := dk_4 (dk_at dksX1_put_1 3 rfl rfl)
theorem dX1_put_26 : decode cX1_put 26 = .ok (.iadd, 1) := dk_96 (dk_at dksX1_put_1 4 rfl rfl)
theorem dX1_put_27 : decode cX1_put 27 = .ok (.putfield 120, 3) := dk_181 0 120 (dk_at dksX1_put_1 5 rfl rfl)
theorem dX1_put_30 : decode cX1_put 30 = .ok (.iinc 2 (-8), 3) := dk_132 2 248 (dk_at dksX1_put_1 8 rfl rfl)
theorem dX1_put_33 : decode cX1_put 33 = .ok (.goto (-30), 3) := dk_167 255 226 (dk_at dksX1_put_1 11 rfl rfl)
theorem dX1_put_36 : decode cX1_put 36 = .ok (.return_, 1) := dk_177 (dk_at dksX1_put_1 14 rfl rfl)
abbrev cX1_gap : ByteArray := prog_1_method_39_code
def yX1_gap : MethodName := ⟨RX1, "gap", "()I"⟩
def dkwX1_gap_6 : List UInt8 := [42, 180, 0, 47, 4, 182, 0, 234, 100, 42, 180, 0, 47, 5, 182, 0, 234, 100, 184, 1, 68, 96, 172]
abbrev dktX1_gap_6 : List UInt8 := dkwX1_gap_6 ++ []
def dkwX1_gap_5 : List UInt8 := [180, 0, 47, 180, 0, 196, 164, 0, 7, 4, 167, 0, 4, 3, 96, 60, 132, 5, 1, 167, 255, 150, 27, 28]
abbrev dktX1_gap_5 : List UInt8 := dkwX1_gap_5 ++ dktX1_gap_6
def dkwX1_gap_4 : List UInt8 := [60, 167, 0, 37, 25, 6, 193, 0, 53, 153, 0, 29, 27, 25, 6, 192, 0, 53, 180, 1, 12, 42]
abbrev dktX1_gap_4 : List UInt8 := dkwX1_gap_4 ++ dktX1_gap_5
def dkwX1_gap_3 : List UInt8 := [25, 6, 192, 0, 58, 180, 1, 28, 42, 180, 0, 47, 180, 0, 110, 164, 0, 7, 4, 167, 0, 4, 3, 96]
abbrev dktX1_gap_3 : List UInt8 := dkwX1_gap_3 ++ dktX1_gap_4
def dkwX1_gap_2 : List UInt8 := [153, 0, 51, 28, 25, 6, 192, 0, 58, 182, 1, 25, 153, 0, 7, 4, 167, 0, 4, 3, 96, 61, 27]
abbrev dktX1_gap_2 : List UInt8 := dkwX1_gap_2 ++ dktX1_gap_3
def dkwX1_gap_1 : List UInt8 := [54, 4, 3, 54, 5, 21, 5, 21, 4, 162, 0, 105, 45, 21, 5, 50, 58, 6, 25, 6, 193, 0, 58]
abbrev dktX1_gap_1 : List UInt8 := dkwX1_gap_1 ++ dktX1_gap_2
def dkwX1_gap_0 : List UInt8 := [42, 180, 0, 47, 182, 0, 240, 182, 1, 65, 60, 3, 61, 42, 180, 0, 47, 180, 0, 74, 78, 45, 190]
abbrev dktX1_gap_0 : List UInt8 := dkwX1_gap_0 ++ dktX1_gap_1
theorem dksX1_gap_0 : cX1_gap.data.toList.drop 0 = dktX1_gap_0 := by decide +kernel
theorem dksX1_gap_1 : cX1_gap.data.toList.drop 23 = dktX1_gap_1 := dk_seg dksX1_gap_0 23 rfl rfl
theorem dksX1_gap_2 : cX1_gap.data.toList.drop 46 = dktX1_gap_2 := dk_seg dksX1_gap_1 23 rfl rfl
theorem dksX1_gap_3 : cX1_gap.data.toList.drop 69 = dktX1_gap_3 := dk_seg dksX1_gap_2 23 rfl rfl
theorem dksX1_gap_4 : cX1_gap.data.toList.drop 93 = dktX1_gap_4 := dk_seg dksX1_gap_3 24 rfl rfl
theorem dksX1_gap_5 : cX1_gap.data.toList.drop 115 = dktX1_gap_5 := dk_seg dksX1_gap_4 22 rfl rfl
theorem dksX1_gap_6 : cX1_gap.data.toList.drop 139 = dktX1_gap_6 := dk_seg dksX1_gap_5 24 rfl rfl
theorem dX1_gap_0 : decode cX1_gap 0 = .ok (.aload_n 0, 1) := dk_42 (dk_at dksX1_gap_0 0 rfl rfl)
theorem dX1_gap_1 : decode cX1_gap 1 = .ok (.getfield 47, 3) := dk_180 0 47 (dk_at dksX1_gap_0 1 rfl rfl)
theorem dX1_gap_4 : decode cX1_gap 4 = .ok (.invokevirtual 240, 3) := dk_182 0 240 (dk_at dksX1_gap_0 4 rfl rfl)
theorem dX1_gap_7 : decode cX1_gap 7 = .ok (.invokevirtual 321, 3) := dk_182 1 65 (dk_at dksX1_gap_0 7 rfl rfl)
theorem dX1_gap_10 : decode cX1_gap 10 = .ok (.istore_n 1, 1) := dk_60 (dk_at dksX1_gap_0 10 rfl rfl)
theorem dX1_gap_11 : decode cX1_gap 11 = .ok (.iconst 0, 1) := dk_3 (dk_at dksX1_gap_0 11 rfl rfl)
theorem dX1_gap_12 : decode cX1_gap 12 = .ok (.istore_n 2, 1) := dk_61 (dk_at dksX1_gap_0 12 rfl rfl)
theorem dX1_gap_13 : decode cX1_gap 13 = .ok (.aload_n 0, 1) := dk_42 (dk_at dksX1_gap_0 13 rfl rfl)
theorem dX1_gap_14 : decode cX1_gap 14 = .ok (.getfield 47, 3) := dk_180 0 47 (dk_at dksX1_gap_0 14 rfl rfl)
theorem dX1_gap_17 : decode cX1_gap 17 = .ok (.getfield 74, 3) := dk_180 0 74 (dk_at dksX1_gap_0 17 rfl rfl)
theorem dX1_gap_20 : decode cX1_gap 20 = .ok (.astore_n 3, 1) := dk_78 (dk_at dksX1_gap_0 20 rfl rfl)
theorem dX1_gap_21 : decode cX1_gap 21 = .ok (.aload_n 3, 1) := dk_45 (dk_at dksX1_gap_0 21 rfl rfl)
theorem dX1_gap_22 : decode cX1_gap 22 = .ok (.arraylength, 1) := dk_190 (dk_at dksX1_gap_0 22 rfl rfl)
theorem dX1_gap_23 : decode cX1_gap 23 = .ok (.istore 4, 2) := dk_54 4 (dk_at dksX1_gap_1 0 rfl rfl)
theorem dX1_gap_25 : decode cX1_gap 25 = .ok (.iconst 0, 1) := dk_3 (dk_at dksX1_gap_1 2 rfl rfl)
theorem dX1_gap_26 : decode cX1_gap 26 = .ok (.istore 5, 2) := dk_54 5 (dk_at dksX1_gap_1 3 rfl rfl)
theorem dX1_gap_28 : decode cX1_gap 28 = .ok (.iload 5, 2) := dk_21 5 (dk_at dksX1_gap_1 5 rfl rfl)
theorem dX1_gap_30 : decode cX1_gap 30 = .ok (.iload 4, 2) := dk_21 4 (dk_at dksX1_gap_1 7 rfl rfl)
theorem dX1_gap_32 : decode cX1_gap 32 = .ok (.if_icmp .ge 105, 3) := dk_162 0 105 (dk_at dksX1_gap_1 9 rfl rfl)
theorem dX1_gap_35 : decode cX1_gap 35 = .ok (.aload_n 3, 1) := dk_45 (dk_at dksX1_gap_1 12 rfl rfl)
theorem dX1_gap_36 : decode cX1_gap 36 = .ok (.iload 5, 2) := dk_21 5 (dk_at dksX1_gap_1 13 rfl rfl)
theorem dX1_gap_38 : decode cX1_gap 38 = .ok (.aaload, 1) := dk_50 (dk_at dksX1_gap_1 15 rfl rfl)
theorem dX1_gap_39 : decode cX1_gap 39 = .ok (.astore 6, 2) := dk_58 6 (dk_at dksX1_gap_1 16 rfl rfl)
theorem dX1_gap_41 : decode cX1_gap 41 = .ok (.aload 6, 2) := dk_25 6 (dk_at dksX1_gap_1 18 rfl rfl)
theorem dX1_gap_43 : decode cX1_gap 43 = .ok (.instanceof 58, 3) := dk_193 0 58 (dk_at dksX1_gap_1 20 rfl rfl)
theorem dX1_gap_46 : decode cX1_gap 46 = .ok (.ifCond .eq 51, 3) := dk_153 0 51 (dk_at dksX1_gap_2 0 rfl rfl)
theorem dX1_gap_49 : decode cX1_gap 49 = .ok (.iload_n 2, 1) := dk_28 (dk_at dksX1_gap_2 3 rfl rfl)
theorem dX1_gap_50 : decode cX1_gap 50 = .ok (.aload 6, 2) := dk_25 6 (dk_at dksX1_gap_2 4 rfl rfl)
theorem dX1_gap_52 : decode cX1_gap 52 = .ok (.checkcast 58, 3) := dk_192 0 58 (dk_at dksX1_gap_2 6 rfl rfl)
theorem dX1_gap_55 : decode cX1_gap 55 = .ok (.invokevirtual 281, 3) := dk_182 1 25 (dk_at dksX1_gap_2 9 rfl rfl)
theorem dX1_gap_58 : decode cX1_gap 58 = .ok (.ifCond .eq 7, 3) := dk_153 0 7 (dk_at dksX1_gap_2 12 rfl rfl)
theorem dX1_gap_61 : decode cX1_gap 61 = .ok (.iconst 1, 1) := dk_4 (dk_at dksX1_gap_2 15 rfl rfl)
theorem dX1_gap_62 : decode cX1_gap 62 = .ok (.goto 4, 3) := dk_167 0 4 (dk_at dksX1_gap_2 16 rfl rfl)
theorem dX1_gap_65 : decode cX1_gap 65 = .ok (.iconst 0, 1) := dk_3 (dk_at dksX1_gap_2 19 rfl rfl)
theorem dX1_gap_66 : decode cX1_gap 66 = .ok (.iadd, 1) := dk_96 (dk_at dksX1_gap_2 20 rfl rfl)
theorem dX1_gap_67 : decode cX1_gap 67 = .ok (.istore_n 2, 1) := dk_61 (dk_at dksX1_gap_2 21 rfl rfl)
theorem dX1_gap_68 : decode cX1_gap 68 = .ok (.iload_n 1, 1) := dk_27 (dk_at dksX1_gap_2 22 rfl rfl)
theorem dX1_gap_69 : decode cX1_gap 69 = .ok (.aload 6, 2) := dk_25 6 (dk_at dksX1_gap_3 0 rfl rfl)
theorem dX1_gap_71 : decode cX1_gap 71 = .ok (.checkcast 58, 3) := dk_192 0 58 (dk_at dksX1_gap_3 2 rfl rfl)
theorem dX1_gap_74 : decode cX1_gap 74 = .ok (.getfield 284, 3) := dk_180 1 28 (dk_at dksX1_gap_3 5 rfl rfl)
theorem dX1_gap_77 : decode cX1_gap 77 = .ok (.aload_n 0, 1) := dk_42 (dk_at dksX1_gap_3 8 rfl rfl)
theorem dX1_gap_78 : decode cX1_gap 78 = .ok (.getfield 47, 3) := dk_180 0 47 (dk_at dksX1_gap_3 9 rfl rfl)
theorem dX1_gap_81 : decode cX1_gap 81 = .ok (.getfield 110, 3) := dk_180 0 110 (dk_at dksX1_gap_3 12 rfl rfl)
theorem dX1_gap_84 : decode cX1_gap 84 = .ok (.if_icmp .le 7, 3) := dk_164 0 7 (dk_at dksX1_gap_3 15 rfl rfl)
theorem dX1_gap_87 : decode cX1_gap 87 = .ok (.iconst 1, 1) := dk_4 (dk_at dksX1_gap_3 18 rfl rfl)
theorem dX1_gap_88 : decode cX1_gap 88 = .ok (.goto 4, 3) := dk_167 0 4 (dk_at dksX1_gap_3 19 rfl rfl)
theorem dX1_gap_91 : decode cX1_gap 91 = .ok (.iconst 0, 1) := dk_3 (dk_at dksX1_gap_3 22 rfl rfl)
theorem dX1_gap_92 : decode cX1_gap 92 = .ok (.iadd, 1) := dk_96 (dk_at dksX1_gap_3 23 rfl rfl)
theorem dX1_gap_93 : decode cX1_gap 93 = .ok (.istore_n 1, 1) := dk_60 (dk_at dksX1_gap_4 0 rfl rfl)
theorem dX1_gap_94 : decode cX1_gap 94 = .ok (.goto 37, 3) := dk_167 0 37 (dk_at dksX1_gap_4 1 rfl rfl)
theorem dX1_gap_97 : decode cX1_gap 97 = .ok (.aload 6, 2) := dk_25 6 (dk_at dksX1_gap_4 4 rfl rfl)
theorem dX1_gap_99 : decode cX1_gap 99 = .ok (.instanceof 53, 3) := dk_193 0 53 (dk_at dksX1_gap_4 6 rfl rfl)
theorem dX1_gap_102 : decode cX1_gap 102 = .ok (.ifCond .eq 29, 3) := dk_153 0 29 (dk_at dksX1_gap_4 9 rfl rfl)
theorem dX1_gap_105 : decode cX1_gap 105 = .ok (.iload_n 1, 1) := dk_27 (dk_at dksX1_gap_4 12 rfl rfl)
theorem dX1_gap_106 : decode cX1_gap 106 = .ok (.aload 6, 2) := dk_25 6 (dk_at dksX1_gap_4 13 rfl rfl)
theorem dX1_gap_108 : decode cX1_gap 108 = .ok (.checkcast 53, 3) := dk_192 0 53 (dk_at dksX1_gap_4 15 rfl rfl)
theorem dX1_gap_111 : decode cX1_gap 111 = .ok (.getfield 268, 3) := dk_180 1 12 (dk_at dksX1_gap_4 18 rfl rfl)
theorem dX1_gap_114 : decode cX1_gap 114 = .ok (.aload_n 0, 1) := dk_42 (dk_at dksX1_gap_4 21 rfl rfl)
theorem dX1_gap_115 : decode cX1_gap 115 = .ok (.getfield 47, 3) := dk_180 0 47 (dk_at dksX1_gap_5 0 rfl rfl)
theorem dX1_gap_118 : decode cX1_gap 118 = .ok (.getfield 196, 3) := dk_180 0 196 (dk_at dksX1_gap_5 3 rfl rfl)
theorem dX1_gap_121 : decode cX1_gap 121 = .ok (.if_icmp .le 7, 3) := dk_164 0 7 (dk_at dksX1_gap_5 6 rfl rfl)
theorem dX1_gap_124 : decode cX1_gap 124 = .ok (.iconst 1, 1) := dk_4 (dk_at dksX1_gap_5 9 rfl rfl)
theorem dX1_gap_125 : decode cX1_gap 125 = .ok (.goto 4, 3) := dk_167 0 4 (dk_at dksX1_gap_5 10 rfl rfl)
theorem dX1_gap_128 : decode cX1_gap 128 = .ok (.iconst 0, 1) := dk_3 (dk_at dksX1_gap_5 13 rfl rfl)
theorem dX1_gap_129 : decode cX1_gap 129 = .ok (.iadd, 1) := dk_96 (dk_at dksX1_gap_5 14 rfl rfl)
theorem dX1_gap_130 : decode cX1_gap 130 = .ok (.istore_n 1, 1) := dk_60 (dk_at dksX1_gap_5 15 rfl rfl)
theorem dX1_gap_131 : decode cX1_gap 131 = .ok (.iinc 5 1, 3) := dk_132 5 1 (dk_at dksX1_gap_5 16 rfl rfl)
theorem dX1_gap_134 : decode cX1_gap 134 = .ok (.goto (-106), 3) := dk_167 255 150 (dk_at dksX1_gap_5 19 rfl rfl)
theorem dX1_gap_137 : decode cX1_gap 137 = .ok (.iload_n 1, 1) := dk_27 (dk_at dksX1_gap_5 22 rfl rfl)
theorem dX1_gap_138 : decode cX1_gap 138 = .ok (.iload_n 2, 1) := dk_28 (dk_at dksX1_gap_5 23 rfl rfl)
theorem dX1_gap_139 : decode cX1_gap 139 = .ok (.aload_n 0, 1) := dk_42 (dk_at dksX1_gap_6 0 rfl rfl)
theorem dX1_gap_140 : decode cX1_gap 140 = .ok (.getfield 47, 3) := dk_180 0 47 (dk_at dksX1_gap_6 1 rfl rfl)
theorem dX1_gap_143 : decode cX1_gap 143 = .ok (.iconst 1, 1) := dk_4 (dk_at dksX1_gap_6 4 rfl rfl)
theorem dX1_gap_144 : decode cX1_gap 144 = .ok (.invokevirtual 234, 3) := dk_182 0 234 (dk_at dksX1_gap_6 5 rfl rfl)
theorem dX1_gap_147 : decode cX1_gap 147 = .ok (.isub, 1) := dk_100 (dk_at dksX1_gap_6 8 rfl rfl)
theorem dX1_gap_148 : decode cX1_gap 148 = .ok (.aload_n 0, 1) := dk_42 (dk_at dksX1_gap_6 9 rfl rfl)
theorem dX1_gap_149 : decode cX1_gap 149 = .ok (.getfield 47, 3) := dk_180 0 47 (dk_at dksX1_gap_6 10 rfl rfl)
theorem dX1_gap_152 : decode cX1_gap 152 = .ok (.iconst 2, 1) := dk_5 (dk_at dksX1_gap_6 13 rfl rfl)
theorem dX1_gap_153 : decode cX1_gap 153 = .ok (.invokevirtual 234, 3) := dk_182 0 234 (dk_at dksX1_gap_6 14 rfl rfl)
theorem dX1_gap_156 : decode cX1_gap 156 = .ok (.isub, 1) := dk_100 (dk_at dksX1_gap_6 17 rfl rfl)
theorem dX1_gap_157 : decode cX1_gap 157 = .ok (.invokestatic 324, 3) := dk_184 1 68 (dk_at dksX1_gap_6 18 rfl rfl)
theorem dX1_gap_160 : decode cX1_gap 160 = .ok (.iadd, 1) := dk_96 (dk_at dksX1_gap_6 21 rfl rfl)
theorem dX1_gap_161 : decode cX1_gap 161 = .ok (.ireturn, 1) := dk_172 (dk_at dksX1_gap_6 22 rfl rfl)
abbrev cX1_litShare : ByteArray := prog_1_method_46_code
def yX1_litShare : MethodName := ⟨RX1, "litShare", "()F"⟩
def dkwX1_litShare_0 : List UInt8 := [42, 3, 182, 1, 42, 134, 42, 180, 0, 47, 180, 0, 222, 42, 180, 0, 47, 180, 0, 225, 104, 134, 110, 174]
abbrev dktX1_litShare_0 : List UInt8 := dkwX1_litShare_0 ++ []
theorem dksX1_litShare_0 : cX1_litShare.data.toList.drop 0 = dktX1_litShare_0 := by decide +kernel
theorem dX1_litShare_0 : decode cX1_litShare 0 = .ok (.aload_n 0, 1) := dk_42 (dk_at dksX1_litShare_0 0 rfl rfl)
theorem dX1_litShare_1 : decode cX1_litShare 1 = .ok (.iconst 0, 1) := dk_3 (dk_at dksX1_litShare_0 1 rfl rfl)
theorem dX1_litShare_2 : decode cX1_litShare 2 = .ok (.invokevirtual 298, 3) := dk_182 1 42 (dk_at dksX1_litShare_0 2 rfl rfl)
theorem dX1_litShare_5 : decode cX1_litShare 5 = .ok (.i2f, 1) := dk_134 (dk_at dksX1_litShare_0 5 rfl rfl)
theorem dX1_litShare_6 : decode cX1_litShare 6 = .ok (.aload_n 0, 1) := dk_42 (dk_at dksX1_litShare_0 6 rfl rfl)
theorem dX1_litShare_7 : decode cX1_litShare 7 = .ok (.getfield 47, 3) := dk_180 0 47 (dk_at dksX1_litShare_0 7 rfl rfl)
theorem dX1_litShare_10 : decode cX1_litShare 10 = .ok (.getfield 222, 3) := dk_180 0 222 (dk_at dksX1_litShare_0 10 rfl rfl)
theorem dX1_litShare_13 : decode cX1_litShare 13 = .ok (.aload_n 0, 1) := dk_42 (dk_at dksX1_litShare_0 13 rfl rfl)
theorem dX1_litShare_14 : decode cX1_litShare 14 = .ok (.getfield 47, 3) := dk_180 0 47 (dk_at dksX1_litShare_0 14 rfl rfl)
theorem dX1_litShare_17 : decode cX1_litShare 17 = .ok (.getfield 225, 3) := dk_180 0 225 (dk_at dksX1_litShare_0 17 rfl rfl)
theorem dX1_litShare_20 : decode cX1_litShare 20 = .ok (.imul, 1) := dk_104 (dk_at dksX1_litShare_0 20 rfl rfl)
theorem dX1_litShare_21 : decode cX1_litShare 21 = .ok (.i2f, 1) := dk_134 (dk_at dksX1_litShare_0 21 rfl rfl)
theorem dX1_litShare_22 : decode cX1_litShare 22 = .ok (.fdiv, 1) := dk_110 (dk_at dksX1_litShare_0 22 rfl rfl)
theorem dX1_litShare_23 : decode cX1_litShare 23 = .ok (.freturn, 1) := dk_174 (dk_at dksX1_litShare_0 23 rfl rfl)
abbrev cX1_lit : ByteArray := prog_1_method_34_code
def yX1_lit : MethodName := ⟨RX1, "lit", "(Z)I"⟩
def dkwX1_lit_3 : List UInt8 := [167, 0, 4, 3, 96, 61, 132, 5, 1, 167, 255, 205, 28, 172]
abbrev dktX1_lit_3 : List UInt8 := dkwX1_lit_3 ++ []
def dkwX1_lit_2 : List UInt8 := [180, 0, 78, 182, 0, 243, 153, 0, 19, 27, 153, 0, 11, 25, 6, 193, 0, 53, 153, 0, 7, 4]
abbrev dktX1_lit_2 : List UInt8 := dkwX1_lit_2 ++ dktX1_lit_3
def dkwX1_lit_1 : List UInt8 := [54, 5, 21, 5, 21, 4, 162, 0, 50, 45, 21, 5, 50, 58, 6, 28, 42, 180, 0, 13, 25, 6]
abbrev dktX1_lit_1 : List UInt8 := dkwX1_lit_1 ++ dktX1_lit_2
def dkwX1_lit_0 : List UInt8 := [42, 180, 0, 47, 182, 0, 240, 87, 3, 61, 42, 180, 0, 47, 180, 0, 74, 78, 45, 190, 54, 4, 3]
abbrev dktX1_lit_0 : List UInt8 := dkwX1_lit_0 ++ dktX1_lit_1
theorem dksX1_lit_0 : cX1_lit.data.toList.drop 0 = dktX1_lit_0 := by decide +kernel
theorem dksX1_lit_1 : cX1_lit.data.toList.drop 23 = dktX1_lit_1 := dk_seg dksX1_lit_0 23 rfl rfl
theorem dksX1_lit_2 : cX1_lit.data.toList.drop 45 = dktX1_lit_2 := dk_seg dksX1_lit_1 22 rfl rfl
theorem dksX1_lit_3 : cX1_lit.data.toList.drop 67 = dktX1_lit_3 := dk_seg dksX1_lit_2 22 rfl rfl
theorem dX1_lit_0 : decode cX1_lit 0 = .ok (.aload_n 0, 1) := dk_42 (dk_at dksX1_lit_0 0 rfl rfl)
theorem dX1_lit_1 : decode cX1_lit 1 = .ok (.getfield 47, 3) := dk_180 0 47 (dk_at dksX1_lit_0 1 rfl rfl)
theorem dX1_lit_4 : decode cX1_lit 4 = .ok (.invokevirtual 240, 3) := dk_182 0 240 (dk_at dksX1_lit_0 4 rfl rfl)
theorem dX1_lit_7 : decode cX1_lit 7 = .ok (.pop, 1) := dk_87 (dk_at dksX1_lit_0 7 rfl rfl)
theorem dX1_lit_8 : decode cX1_lit 8 = .ok (.iconst 0, 1) := dk_3 (dk_at dksX1_lit_0 8 rfl rfl)
theorem dX1_lit_9 : decode cX1_lit 9 = .ok (.istore_n 2, 1) := dk_61 (dk_at dksX1_lit_0 9 rfl rfl)
theorem dX1_lit_10 : decode cX1_lit 10 = .ok (.aload_n 0, 1) := dk_42 (dk_at dksX1_lit_0 10 rfl rfl)
theorem dX1_lit_11 : decode cX1_lit 11 = .ok (.getfield 47, 3) := dk_180 0 47 (dk_at dksX1_lit_0 11 rfl rfl)
theorem dX1_lit_14 : decode cX1_lit 14 = .ok (.getfield 74, 3) := dk_180 0 74 (dk_at dksX1_lit_0 14 rfl rfl)
theorem dX1_lit_17 : decode cX1_lit 17 = .ok (.astore_n 3, 1) := dk_78 (dk_at dksX1_lit_0 17 rfl rfl)
theorem dX1_lit_18 : decode cX1_lit 18 = .ok (.aload_n 3, 1) := dk_45 (dk_at dksX1_lit_0 18 rfl rfl)
theorem dX1_lit_19 : decode cX1_lit 19 = .ok (.arraylength, 1) := dk_190 (dk_at dksX1_lit_0 19 rfl rfl)
theorem dX1_lit_20 : decode cX1_lit 20 = .ok (.istore 4, 2) := dk_54 4 (dk_at dksX1_lit_0 20 rfl rfl)
theorem dX1_lit_22 : decode cX1_lit 22 = .ok (.iconst 0, 1) := dk_3 (dk_at dksX1_lit_0 22 rfl rfl)
theorem dX1_lit_23 : decode cX1_lit 23 = .ok (.istore 5, 2) := dk_54 5 (dk_at dksX1_lit_1 0 rfl rfl)
theorem dX1_lit_25 : decode cX1_lit 25 = .ok (.iload 5, 2) := dk_21 5 (dk_at dksX1_lit_1 2 rfl rfl)
theorem dX1_lit_27 : decode cX1_lit 27 = .ok (.iload 4, 2) := dk_21 4 (dk_at dksX1_lit_1 4 rfl rfl)
theorem dX1_lit_29 : decode cX1_lit 29 = .ok (.if_icmp .ge 50, 3) := dk_162 0 50 (dk_at dksX1_lit_1 6 rfl rfl)
theorem dX1_lit_32 : decode cX1_lit 32 = .ok (.aload_n 3, 1) := dk_45 (dk_at dksX1_lit_1 9 rfl rfl)
theorem dX1_lit_33 : decode cX1_lit 33 = .ok (.iload 5, 2) := dk_21 5 (dk_at dksX1_lit_1 10 rfl rfl)
theorem dX1_lit_35 : decode cX1_lit 35 = .ok (.aaload, 1) := dk_50 (dk_at dksX1_lit_1 12 rfl rfl)
theorem dX1_lit_36 : decode cX1_lit 36 = .ok (.astore 6, 2) := dk_58 6 (dk_at dksX1_lit_1 13 rfl rfl)
theorem dX1_lit_38 : decode cX1_lit 38 = .ok (.iload_n 2, 1) := dk_28 (dk_at dksX1_lit_1 15 rfl rfl)
theorem dX1_lit_39 : decode cX1_lit 39 = .ok (.aload_n 0, 1) := dk_42 (dk_at dksX1_lit_1 16 rfl rfl)
theorem dX1_lit_40 : decode cX1_lit 40 = .ok (.getfield 13, 3) := dk_180 0 13 (dk_at dksX1_lit_1 17 rfl rfl)
theorem dX1_lit_43 : decode cX1_lit 43 = .ok (.aload 6, 2) := dk_25 6 (dk_at dksX1_lit_1 20 rfl rfl)
theorem dX1_lit_45 : decode cX1_lit 45 = .ok (.getfield 78, 3) := dk_180 0 78 (dk_at dksX1_lit_2 0 rfl rfl)
theorem dX1_lit_48 : decode cX1_lit 48 = .ok (.invokevirtual 243, 3) := dk_182 0 243 (dk_at dksX1_lit_2 3 rfl rfl)
theorem dX1_lit_51 : decode cX1_lit 51 = .ok (.ifCond .eq 19, 3) := dk_153 0 19 (dk_at dksX1_lit_2 6 rfl rfl)
theorem dX1_lit_54 : decode cX1_lit 54 = .ok (.iload_n 1, 1) := dk_27 (dk_at dksX1_lit_2 9 rfl rfl)
theorem dX1_lit_55 : decode cX1_lit 55 = .ok (.ifCond .eq 11, 3) := dk_153 0 11 (dk_at dksX1_lit_2 10 rfl rfl)
theorem dX1_lit_58 : decode cX1_lit 58 = .ok (.aload 6, 2) := dk_25 6 (dk_at dksX1_lit_2 13 rfl rfl)
theorem dX1_lit_60 : decode cX1_lit 60 = .ok (.instanceof 53, 3) := dk_193 0 53 (dk_at dksX1_lit_2 15 rfl rfl)
theorem dX1_lit_63 : decode cX1_lit 63 = .ok (.ifCond .eq 7, 3) := dk_153 0 7 (dk_at dksX1_lit_2 18 rfl rfl)
theorem dX1_lit_66 : decode cX1_lit 66 = .ok (.iconst 1, 1) := dk_4 (dk_at dksX1_lit_2 21 rfl rfl)
theorem dX1_lit_67 : decode cX1_lit 67 = .ok (.goto 4, 3) := dk_167 0 4 (dk_at dksX1_lit_3 0 rfl rfl)
theorem dX1_lit_70 : decode cX1_lit 70 = .ok (.iconst 0, 1) := dk_3 (dk_at dksX1_lit_3 3 rfl rfl)
theorem dX1_lit_71 : decode cX1_lit 71 = .ok (.iadd, 1) := dk_96 (dk_at dksX1_lit_3 4 rfl rfl)
theorem dX1_lit_72 : decode cX1_lit 72 = .ok (.istore_n 2, 1) := dk_61 (dk_at dksX1_lit_3 5 rfl rfl)
theorem dX1_lit_73 : decode cX1_lit 73 = .ok (.iinc 5 1, 3) := dk_132 5 1 (dk_at dksX1_lit_3 6 rfl rfl)
theorem dX1_lit_76 : decode cX1_lit 76 = .ok (.goto (-51), 3) := dk_167 255 205 (dk_at dksX1_lit_3 9 rfl rfl)
theorem dX1_lit_79 : decode cX1_lit 79 = .ok (.iload_n 2, 1) := dk_28 (dk_at dksX1_lit_3 12 rfl rfl)
theorem dX1_lit_80 : decode cX1_lit 80 = .ok (.ireturn, 1) := dk_172 (dk_at dksX1_lit_3 13 rfl rfl)
abbrev cX1_meanSteps : ByteArray := prog_1_method_47_code
def yX1_meanSteps : MethodName := ⟨RX1, "meanSteps", "()D"⟩
def dkwX1_meanSteps_4 : List UInt8 := [167, 0, 8, 27, 135, 28, 135, 111, 175]
abbrev dktX1_meanSteps_4 : List UInt8 := dkwX1_meanSteps_4 ++ []
def dkwX1_meanSteps_3 : List UInt8 := [180, 0, 78, 182, 1, 62, 96, 60, 132, 2, 1, 132, 5, 1, 167, 255, 199, 28, 154, 0, 7, 14]
abbrev dktX1_meanSteps_3 : List UInt8 := dkwX1_meanSteps_3 ++ dktX1_meanSteps_4
def dkwX1_meanSteps_2 : List UInt8 := [42, 180, 0, 13, 25, 6, 180, 0, 78, 182, 0, 243, 153, 0, 21, 27, 42, 180, 0, 13, 25, 6]
abbrev dktX1_meanSteps_2 : List UInt8 := dkwX1_meanSteps_2 ++ dktX1_meanSteps_3
def dkwX1_meanSteps_1 : List UInt8 := [3, 54, 5, 21, 5, 21, 4, 162, 0, 56, 45, 21, 5, 50, 58, 6, 25, 6, 193, 0, 58, 153, 0, 36]
abbrev dktX1_meanSteps_1 : List UInt8 := dkwX1_meanSteps_1 ++ dktX1_meanSteps_2
def dkwX1_meanSteps_0 : List UInt8 := [42, 180, 0, 47, 182, 0, 240, 87, 3, 60, 3, 61, 42, 180, 0, 47, 180, 0, 74, 78, 45, 190, 54, 4]
abbrev dktX1_meanSteps_0 : List UInt8 := dkwX1_meanSteps_0 ++ dktX1_meanSteps_1
theorem dksX1_meanSteps_0 : cX1_meanSteps.data.toList.drop 0 = dktX1_meanSteps_0 := by decide +kernel
theorem dksX1_meanSteps_1 : cX1_meanSteps.data.toList.drop 24 = dktX1_meanSteps_1 := dk_seg dksX1_meanSteps_0 24 rfl rfl
theorem dksX1_meanSteps_2 : cX1_meanSteps.data.toList.drop 48 = dktX1_meanSteps_2 := dk_seg dksX1_meanSteps_1 24 rfl rfl
theorem dksX1_meanSteps_3 : cX1_meanSteps.data.toList.drop 70 = dktX1_meanSteps_3 := dk_seg dksX1_meanSteps_2 22 rfl rfl
theorem dksX1_meanSteps_4 : cX1_meanSteps.data.toList.drop 92 = dktX1_meanSteps_4 := dk_seg dksX1_meanSteps_3 22 rfl rfl
theorem dX1_meanSteps_0 : decode cX1_meanSteps 0 = .ok (.aload_n 0, 1) := dk_42 (dk_at dksX1_meanSteps_0 0 rfl rfl)
theorem dX1_meanSteps_1 : decode cX1_meanSteps 1 = .ok (.getfield 47, 3) := dk_180 0 47 (dk_at dksX1_meanSteps_0 1 rfl rfl)
theorem dX1_meanSteps_4 : decode cX1_meanSteps 4 = .ok (.invokevirtual 240, 3) := dk_182 0 240 (dk_at dksX1_meanSteps_0 4 rfl rfl)
theorem dX1_meanSteps_7 : decode cX1_meanSteps 7 = .ok (.pop, 1) := dk_87 (dk_at dksX1_meanSteps_0 7 rfl rfl)
theorem dX1_meanSteps_8 : decode cX1_meanSteps 8 = .ok (.iconst 0, 1) := dk_3 (dk_at dksX1_meanSteps_0 8 rfl rfl)
theorem dX1_meanSteps_9 : decode cX1_meanSteps 9 = .ok (.istore_n 1, 1) := dk_60 (dk_at dksX1_meanSteps_0 9 rfl rfl)
theorem dX1_meanSteps_10 : decode cX1_meanSteps 10 = .ok (.iconst 0, 1) := dk_3 (dk_at dksX1_meanSteps_0 10 rfl rfl)
theorem dX1_meanSteps_11 : decode cX1_meanSteps 11 = .ok (.istore_n 2, 1) := dk_61 (dk_at dksX1_meanSteps_0 11 rfl rfl)
theorem dX1_meanSteps_12 : decode cX1_meanSteps 12 = .ok (.aload_n 0, 1) := dk_42 (dk_at dksX1_meanSteps_0 12 rfl rfl)
theorem dX1_meanSteps_13 : decode cX1_meanSteps 13 = .ok (.getfield 47, 3) := dk_180 0 47 (dk_at dksX1_meanSteps_0 13 rfl rfl)
theorem dX1_meanSteps_16 : decode cX1_meanSteps 16 = .ok (.getfield 74, 3) := dk_180 0 74 (dk_at dksX1_meanSteps_0 16 rfl rfl)
theorem dX1_meanSteps_19 : decode cX1_meanSteps 19 = .ok (.astore_n 3, 1) := dk_78 (dk_at dksX1_meanSteps_0 19 rfl rfl)
theorem dX1_meanSteps_20 : decode cX1_meanSteps 20 = .ok (.aload_n 3, 1) := dk_45 (dk_at dksX1_meanSteps_0 20 rfl rfl)
theorem dX1_meanSteps_21 : decode cX1_meanSteps 21 = .ok (.arraylength, 1) := dk_190 (dk_at dksX1_meanSteps_0 21 rfl rfl)
theorem dX1_meanSteps_22 : decode cX1_meanSteps 22 = .ok (.istore 4, 2) := dk_54 4 (dk_at dksX1_meanSteps_0 22 rfl rfl)
theorem dX1_meanSteps_24 : decode cX1_meanSteps 24 = .ok (.iconst 0, 1) := dk_3 (dk_at dksX1_meanSteps_1 0 rfl rfl)
theorem dX1_meanSteps_25 : decode cX1_meanSteps 25 = .ok (.istore 5, 2) := dk_54 5 (dk_at dksX1_meanSteps_1 1 rfl rfl)
theorem dX1_meanSteps_27 : decode cX1_meanSteps 27 = .ok (.iload 5, 2) := dk_21 5 (dk_at dksX1_meanSteps_1 3 rfl rfl)
theorem dX1_meanSteps_29 : decode cX1_meanSteps 29 = .ok (.iload 4, 2) := dk_21 4 (dk_at dksX1_meanSteps_1 5 rfl rfl)
theorem dX1_meanSteps_31 : decode cX1_meanSteps 31 = .ok (.if_icmp .ge 56, 3) := dk_162 0 56 (dk_at dksX1_meanSteps_1 7 rfl rfl)
theorem dX1_meanSteps_34 : decode cX1_meanSteps 34 = .ok (.aload_n 3, 1) := dk_45 (dk_at dksX1_meanSteps_1 10 rfl rfl)
theorem dX1_meanSteps_35 : decode cX1_meanSteps 35 = .ok (.iload 5, 2) := dk_21 5 (dk_at dksX1_meanSteps_1 11 rfl rfl)
theorem dX1_meanSteps_37 : decode cX1_meanSteps 37 = .ok (.aaload, 1) := dk_50 (dk_at dksX1_meanSteps_1 13 rfl rfl)
theorem dX1_meanSteps_38 : decode cX1_meanSteps 38 = .ok (.astore 6, 2) := dk_58 6 (dk_at dksX1_meanSteps_1 14 rfl rfl)
theorem dX1_meanSteps_40 : decode cX1_meanSteps 40 = .ok (.aload 6, 2) := dk_25 6 (dk_at dksX1_meanSteps_1 16 rfl rfl)
theorem dX1_meanSteps_42 : decode cX1_meanSteps 42 = .ok (.instanceof 58, 3) := dk_193 0 58 (dk_at dksX1_meanSteps_1 18 rfl rfl)
theorem dX1_meanSteps_45 : decode cX1_meanSteps 45 = .ok (.ifCond .eq 36, 3) := dk_153 0 36 (dk_at dksX1_meanSteps_1 21 rfl rfl)
theorem dX1_meanSteps_48 : decode cX1_meanSteps 48 = .ok (.aload_n 0, 1) := dk_42 (dk_at dksX1_meanSteps_2 0 rfl rfl)
theorem dX1_meanSteps_49 : decode cX1_meanSteps 49 = .ok (.getfield 13, 3) := dk_180 0 13 (dk_at dksX1_meanSteps_2 1 rfl rfl)
theorem dX1_meanSteps_52 : decode cX1_meanSteps 52 = .ok (.aload 6, 2) := dk_25 6 (dk_at dksX1_meanSteps_2 4 rfl rfl)
theorem dX1_meanSteps_54 : decode cX1_meanSteps 54 = .ok (.getfield 78, 3) := dk_180 0 78 (dk_at dksX1_meanSteps_2 6 rfl rfl)
theorem dX1_meanSteps_57 : decode cX1_meanSteps 57 = .ok (.invokevirtual 243, 3) := dk_182 0 243 (dk_at dksX1_meanSteps_2 9 rfl rfl)
theorem dX1_meanSteps_60 : decode cX1_meanSteps 60 = .ok (.ifCond .eq 21, 3) := dk_153 0 21 (dk_at dksX1_meanSteps_2 12 rfl rfl)
theorem dX1_meanSteps_63 : decode cX1_meanSteps 63 = .ok (.iload_n 1, 1) := dk_27 (dk_at dksX1_meanSteps_2 15 rfl rfl)
theorem dX1_meanSteps_64 : decode cX1_meanSteps 64 = .ok (.aload_n 0, 1) := dk_42 (dk_at dksX1_meanSteps_2 16 rfl rfl)
theorem dX1_meanSteps_65 : decode cX1_meanSteps 65 = .ok (.getfield 13, 3) := dk_180 0 13 (dk_at dksX1_meanSteps_2 17 rfl rfl)
theorem dX1_meanSteps_68 : decode cX1_meanSteps 68 = .ok (.aload 6, 2) := dk_25 6 (dk_at dksX1_meanSteps_2 20 rfl rfl)
theorem dX1_meanSteps_70 : decode cX1_meanSteps 70 = .ok (.getfield 78, 3) := dk_180 0 78 (dk_at dksX1_meanSteps_3 0 rfl rfl)
theorem dX1_meanSteps_73 : decode cX1_meanSteps 73 = .ok (.invokevirtual 318, 3) := dk_182 1 62 (dk_at dksX1_meanSteps_3 3 rfl rfl)
theorem dX1_meanSteps_76 : decode cX1_meanSteps 76 = .ok (.iadd, 1) := dk_96 (dk_at dksX1_meanSteps_3 6 rfl rfl)
theorem dX1_meanSteps_77 : decode cX1_meanSteps 77 = .ok (.istore_n 1, 1) := dk_60 (dk_at dksX1_meanSteps_3 7 rfl rfl)
theorem dX1_meanSteps_78 : decode cX1_meanSteps 78 = .ok (.iinc 2 1, 3) := dk_132 2 1 (dk_at dksX1_meanSteps_3 8 rfl rfl)
theorem dX1_meanSteps_81 : decode cX1_meanSteps 81 = .ok (.iinc 5 1, 3) := dk_132 5 1 (dk_at dksX1_meanSteps_3 11 rfl rfl)
theorem dX1_meanSteps_84 : decode cX1_meanSteps 84 = .ok (.goto (-57), 3) := dk_167 255 199 (dk_at dksX1_meanSteps_3 14 rfl rfl)
theorem dX1_meanSteps_87 : decode cX1_meanSteps 87 = .ok (.iload_n 2, 1) := dk_28 (dk_at dksX1_meanSteps_3 17 rfl rfl)
theorem dX1_meanSteps_88 : decode cX1_meanSteps 88 = .ok (.ifCond .ne 7, 3) := dk_154 0 7 (dk_at dksX1_meanSteps_3 18 rfl rfl)
theorem dX1_meanSteps_91 : decode cX1_meanSteps 91 = .ok (.dconst 0, 1) := dk_14 (dk_at dksX1_meanSteps_3 21 rfl rfl)
theorem dX1_meanSteps_92 : decode cX1_meanSteps 92 = .ok (.goto 8, 3) := dk_167 0 8 (dk_at dksX1_meanSteps_4 0 rfl rfl)
theorem dX1_meanSteps_95 : decode cX1_meanSteps 95 = .ok (.iload_n 1, 1) := dk_27 (dk_at dksX1_meanSteps_4 3 rfl rfl)
theorem dX1_meanSteps_96 : decode cX1_meanSteps 96 = .ok (.i2d, 1) := dk_135 (dk_at dksX1_meanSteps_4 4 rfl rfl)
theorem dX1_meanSteps_97 : decode cX1_meanSteps 97 = .ok (.iload_n 2, 1) := dk_28 (dk_at dksX1_meanSteps_4 5 rfl rfl)
theorem dX1_meanSteps_98 : decode cX1_meanSteps 98 = .ok (.i2d, 1) := dk_135 (dk_at dksX1_meanSteps_4 6 rfl rfl)
theorem dX1_meanSteps_99 : decode cX1_meanSteps 99 = .ok (.ddiv, 1) := dk_111 (dk_at dksX1_meanSteps_4 7 rfl rfl)
theorem dX1_meanSteps_100 : decode cX1_meanSteps 100 = .ok (.dreturn, 1) := dk_175 (dk_at dksX1_meanSteps_4 8 rfl rfl)
abbrev cX1_writeBoard : ByteArray := prog_1_method_49_code
def yX1_writeBoard : MethodName := ⟨RX1, "writeBoard", "()I"⟩
def dkwX1_writeBoard_4 : List UInt8 := [43, 182, 1, 115, 181, 0, 40, 42, 180, 0, 40, 182, 1, 119, 172]
abbrev dktX1_writeBoard_4 : List UInt8 := dkwX1_writeBoard_4 ++ []
def dkwX1_writeBoard_3 : List UInt8 := [104, 29, 96, 50, 182, 1, 108, 182, 1, 112, 87, 132, 3, 1, 167, 255, 219, 132, 2, 1, 167, 255, 183, 42]
abbrev dktX1_writeBoard_3 : List UInt8 := dkwX1_writeBoard_3 ++ dktX1_writeBoard_4
def dkwX1_writeBoard_2 : List UInt8 := [62, 29, 42, 180, 0, 47, 180, 0, 222, 162, 0, 32, 43, 42, 42, 180, 0, 47, 180, 0, 74, 16, 10, 28]
abbrev dktX1_writeBoard_2 : List UInt8 := dkwX1_writeBoard_2 ++ dktX1_writeBoard_3
def dkwX1_writeBoard_1 : List UInt8 := [180, 0, 225, 162, 0, 68, 43, 28, 158, 0, 9, 19, 1, 102, 167, 0, 5, 18, 38, 182, 1, 104, 87, 3]
abbrev dktX1_writeBoard_1 : List UInt8 := dkwX1_writeBoard_1 ++ dktX1_writeBoard_2
def dkwX1_writeBoard_0 : List UInt8 := [42, 180, 0, 47, 182, 0, 240, 87, 187, 1, 99, 89, 183, 1, 101, 76, 3, 61, 28, 42, 180, 0, 47]
abbrev dktX1_writeBoard_0 : List UInt8 := dkwX1_writeBoard_0 ++ dktX1_writeBoard_1
theorem dksX1_writeBoard_0 : cX1_writeBoard.data.toList.drop 0 = dktX1_writeBoard_0 := by decide +kernel
theorem dksX1_writeBoard_1 : cX1_writeBoard.data.toList.drop 23 = dktX1_writeBoard_1 := dk_seg dksX1_writeBoard_0 23 rfl rfl
theorem dksX1_writeBoard_2 : cX1_writeBoard.data.toList.drop 47 = dktX1_writeBoard_2 := dk_seg dksX1_writeBoard_1 24 rfl rfl
theorem dksX1_writeBoard_3 : cX1_writeBoard.data.toList.drop 71 = dktX1_writeBoard_3 := dk_seg dksX1_writeBoard_2 24 rfl rfl
theorem dksX1_writeBoard_4 : cX1_writeBoard.data.toList.drop 95 = dktX1_writeBoard_4 := dk_seg dksX1_writeBoard_3 24 rfl rfl
theorem dX1_writeBoard_0 : decode cX1_writeBoard 0 = .ok (.aload_n 0, 1) := dk_42 (dk_at dksX1_writeBoard_0 0 rfl rfl)
theorem dX1_writeBoard_1 : decode cX1_writeBoard 1 = .ok (.getfield 47, 3) := dk_180 0 47 (dk_at dksX1_writeBoard_0 1 rfl rfl)
theorem dX1_writeBoard_4 : decode cX1_writeBoard 4 = .ok (.invokevirtual 240, 3) := dk_182 0 240 (dk_at dksX1_writeBoard_0 4 rfl rfl)
theorem dX1_writeBoard_7 : decode cX1_writeBoard 7 = .ok (.pop, 1) := dk_87 (dk_at dksX1_writeBoard_0 7 rfl rfl)
theorem dX1_writeBoard_8 : decode cX1_writeBoard 8 = .ok (.new 355, 3) := dk_187 1 99 (dk_at dksX1_writeBoard_0 8 rfl rfl)
theorem dX1_writeBoard_11 : decode cX1_writeBoard 11 = .ok (.dup, 1) := dk_89 (dk_at dksX1_writeBoard_0 11 rfl rfl)
theorem dX1_writeBoard_12 : decode cX1_writeBoard 12 = .ok (.invokespecial 357, 3) := dk_183 1 101 (dk_at dksX1_writeBoard_0 12 rfl rfl)
theorem dX1_writeBoard_15 : decode cX1_writeBoard 15 = .ok (.astore_n 1, 1) := dk_76 (dk_at dksX1_writeBoard_0 15 rfl rfl)
theorem dX1_writeBoard_16 : decode cX1_writeBoard 16 = .ok (.iconst 0, 1) := dk_3 (dk_at dksX1_writeBoard_0 16 rfl rfl)
theorem dX1_writeBoard_17 : decode cX1_writeBoard 17 = .ok (.istore_n 2, 1) := dk_61 (dk_at dksX1_writeBoard_0 17 rfl rfl)
theorem dX1_writeBoard_18 : decode cX1_writeBoard 18 = .ok (.iload_n 2, 1) := dk_28 (dk_at dksX1_writeBoard_0 18 rfl rfl)
theorem dX1_writeBoard_19 : decode cX1_writeBoard 19 = .ok (.aload_n 0, 1) := dk_42 (dk_at dksX1_writeBoard_0 19 rfl rfl)
theorem dX1_writeBoard_20 : decode cX1_writeBoard 20 = .ok (.getfield 47, 3) := dk_180 0 47 (dk_at dksX1_writeBoard_0 20 rfl rfl)
theorem dX1_writeBoard_23 : decode cX1_writeBoard 23 = .ok (.getfield 225, 3) := dk_180 0 225 (dk_at dksX1_writeBoard_1 0 rfl rfl)
theorem dX1_writeBoard_26 : decode cX1_writeBoard 26 = .ok (.if_icmp .ge 68, 3) := dk_162 0 68 (dk_at dksX1_writeBoard_1 3 rfl rfl)
theorem dX1_writeBoard_29 : decode cX1_writeBoard 29 = .ok (.aload_n 1, 1) := dk_43 (dk_at dksX1_writeBoard_1 6 rfl rfl)
theorem dX1_writeBoard_30 : decode cX1_writeBoard 30 = .ok (.iload_n 2, 1) := dk_28 (dk_at dksX1_writeBoard_1 7 rfl rfl)
theorem dX1_writeBoard_31 : decode cX1_writeBoard 31 = .ok (.ifCond .le 9, 3) := dk_158 0 9 (dk_at dksX1_writeBoard_1 8 rfl rfl)
theorem dX1_writeBoard_34 : decode cX1_writeBoard 34 = .ok (.ldc_w 358, 3) := dk_19 1 102 (dk_at dksX1_writeBoard_1 11 rfl rfl)
theorem dX1_writeBoard_37 : decode cX1_writeBoard 37 = .ok (.goto 5, 3) := dk_167 0 5 (dk_at dksX1_writeBoard_1 14 rfl rfl)
theorem dX1_writeBoard_40 : decode cX1_writeBoard 40 = .ok (.ldc 38, 2) := dk_18 38 (dk_at dksX1_writeBoard_1 17 rfl rfl)
theorem dX1_writeBoard_42 : decode cX1_writeBoard 42 = .ok (.invokevirtual 360, 3) := dk_182 1 104 (dk_at dksX1_writeBoard_1 19 rfl rfl)
theorem dX1_writeBoard_45 : decode cX1_writeBoard 45 = .ok (.pop, 1) := dk_87 (dk_at dksX1_writeBoard_1 22 rfl rfl)
theorem dX1_writeBoard_46 : decode cX1_writeBoard 46 = .ok (.iconst 0, 1) := dk_3 (dk_at dksX1_writeBoard_1 23 rfl rfl)
theorem dX1_writeBoard_47 : decode cX1_writeBoard 47 = .ok (.istore_n 3, 1) := dk_62 (dk_at dksX1_writeBoard_2 0 rfl rfl)
theorem dX1_writeBoard_48 : decode cX1_writeBoard 48 = .ok (.iload_n 3, 1) := dk_29 (dk_at dksX1_writeBoard_2 1 rfl rfl)
theorem dX1_writeBoard_49 : decode cX1_writeBoard 49 = .ok (.aload_n 0, 1) := dk_42 (dk_at dksX1_writeBoard_2 2 rfl rfl)
theorem dX1_writeBoard_50 : decode cX1_writeBoard 50 = .ok (.getfield 47, 3) := dk_180 0 47 (dk_at dksX1_writeBoard_2 3 rfl rfl)
theorem dX1_writeBoard_53 : decode cX1_writeBoard 53 = .ok (.getfield 222, 3) := dk_180 0 222 (dk_at dksX1_writeBoard_2 6 rfl rfl)
theorem dX1_writeBoard_56 : decode cX1_writeBoard 56 = .ok (.if_icmp .ge 32, 3) := dk_162 0 32 (dk_at dksX1_writeBoard_2 9 rfl rfl)
theorem dX1_writeBoard_59 : decode cX1_writeBoard 59 = .ok (.aload_n 1, 1) := dk_43 (dk_at dksX1_writeBoard_2 12 rfl rfl)
theorem dX1_writeBoard_60 : decode cX1_writeBoard 60 = .ok (.aload_n 0, 1) := dk_42 (dk_at dksX1_writeBoard_2 13 rfl rfl)
theorem dX1_writeBoard_61 : decode cX1_writeBoard 61 = .ok (.aload_n 0, 1) := dk_42 (dk_at dksX1_writeBoard_2 14 rfl rfl)
theorem dX1_writeBoard_62 : decode cX1_writeBoard 62 = .ok (.getfield 47, 3) := dk_180 0 47 (dk_at dksX1_writeBoard_2 15 rfl rfl)
theorem dX1_writeBoard_65 : decode cX1_writeBoard 65 = .ok (.getfield 74, 3) := dk_180 0 74 (dk_at dksX1_writeBoard_2 18 rfl rfl)
theorem dX1_writeBoard_68 : decode cX1_writeBoard 68 = .ok (.bipush 10, 2) := dk_16 10 (dk_at dksX1_writeBoard_2 21 rfl rfl)
theorem dX1_writeBoard_70 : decode cX1_writeBoard 70 = .ok (.iload_n 2, 1) := dk_28 (dk_at dksX1_writeBoard_2 23 rfl rfl)
theorem dX1_writeBoard_71 : decode cX1_writeBoard 71 = .ok (.imul, 1) := dk_104 (dk_at dksX1_writeBoard_3 0 rfl rfl)
theorem dX1_writeBoard_72 : decode cX1_writeBoard 72 = .ok (.iload_n 3, 1) := dk_29 (dk_at dksX1_writeBoard_3 1 rfl rfl)
theorem dX1_writeBoard_73 : decode cX1_writeBoard 73 = .ok (.iadd, 1) := dk_96 (dk_at dksX1_writeBoard_3 2 rfl rfl)
theorem dX1_writeBoard_74 : decode cX1_writeBoard 74 = .ok (.aaload, 1) := dk_50 (dk_at dksX1_writeBoard_3 3 rfl rfl)
theorem dX1_writeBoard_75 : decode cX1_writeBoard 75 = .ok (.invokevirtual 364, 3) := dk_182 1 108 (dk_at dksX1_writeBoard_3 4 rfl rfl)
theorem dX1_writeBoard_78 : decode cX1_writeBoard 78 = .ok (.invokevirtual 368, 3) := dk_182 1 112 (dk_at dksX1_writeBoard_3 7 rfl rfl)
theorem dX1_writeBoard_81 : decode cX1_writeBoard 81 = .ok (.pop, 1) := dk_87 (dk_at dksX1_writeBoard_3 10 rfl rfl)
theorem dX1_writeBoard_82 : decode cX1_writeBoard 82 = .ok (.iinc 3 1, 3) := dk_132 3 1 (dk_at dksX1_writeBoard_3 11 rfl rfl)
theorem dX1_writeBoard_85 : decode cX1_writeBoard 85 = .ok (.goto (-37), 3) := dk_167 255 219 (dk_at dksX1_writeBoard_3 14 rfl rfl)
theorem dX1_writeBoard_88 : decode cX1_writeBoard 88 = .ok (.iinc 2 1, 3) := dk_132 2 1 (dk_at dksX1_writeBoard_3 17 rfl rfl)
theorem dX1_writeBoard_91 : decode cX1_writeBoard 91 = .ok (.goto (-73), 3) := dk_167 255 183 (dk_at dksX1_writeBoard_3 20 rfl rfl)
theorem dX1_writeBoard_94 : decode cX1_writeBoard 94 = .ok (.aload_n 0, 1) := dk_42 (dk_at dksX1_writeBoard_3 23 rfl rfl)
theorem dX1_writeBoard_95 : decode cX1_writeBoard 95 = .ok (.aload_n 1, 1) := dk_43 (dk_at dksX1_writeBoard_4 0 rfl rfl)
theorem dX1_writeBoard_96 : decode cX1_writeBoard 96 = .ok (.invokevirtual 371, 3) := dk_182 1 115 (dk_at dksX1_writeBoard_4 1 rfl rfl)
theorem dX1_writeBoard_99 : decode cX1_writeBoard 99 = .ok (.putfield 40, 3) := dk_181 0 40 (dk_at dksX1_writeBoard_4 4 rfl rfl)
theorem dX1_writeBoard_102 : decode cX1_writeBoard 102 = .ok (.aload_n 0, 1) := dk_42 (dk_at dksX1_writeBoard_4 7 rfl rfl)
theorem dX1_writeBoard_103 : decode cX1_writeBoard 103 = .ok (.getfield 40, 3) := dk_180 0 40 (dk_at dksX1_writeBoard_4 8 rfl rfl)
theorem dX1_writeBoard_106 : decode cX1_writeBoard 106 = .ok (.invokevirtual 375, 3) := dk_182 1 119 (dk_at dksX1_writeBoard_4 11 rfl rfl)
theorem dX1_writeBoard_109 : decode cX1_writeBoard 109 = .ok (.ireturn, 1) := dk_172 (dk_at dksX1_writeBoard_4 14 rfl rfl)
abbrev cX1_sign : ByteArray := prog_1_method_48_code
def yX1_sign : MethodName := ⟨RX1, "sign", "(LMirrorDoors$Cell;)C"⟩
def dkwX1_sign_5 : List UInt8 := [182, 1, 89, 172, 16, 111, 172, 16, 42, 172]
abbrev dktX1_sign_5 : List UInt8 := dkwX1_sign_5 ++ []
def dkwX1_sign_4 : List UInt8 := [192, 0, 58, 182, 1, 25, 153, 0, 8, 16, 79, 167, 0, 5, 16, 68, 172, 19, 1, 97, 43, 182, 0, 183]
abbrev dktX1_sign_4 : List UInt8 := dkwX1_sign_4 ++ dktX1_sign_5
def dkwX1_sign_3 : List UInt8 := [172, 19, 1, 87, 43, 182, 0, 183, 182, 1, 89, 172, 19, 1, 95, 43, 182, 0, 183, 182, 1, 89, 172, 43]
abbrev dktX1_sign_3 : List UInt8 := dkwX1_sign_3 ++ dktX1_sign_4
def dkwX1_sign_2 : List UInt8 := [42, 180, 0, 13, 43, 180, 0, 78, 182, 0, 243, 154, 0, 8, 16, 46, 167, 0, 5, 16, 43, 172, 16, 35]
abbrev dktX1_sign_2 : List UInt8 := dkwX1_sign_2 ++ dktX1_sign_3
def dkwX1_sign_1 : List UInt8 := [170, 0, 0, 0, 0, 0, 0, 123, 0, 0, 0, 0, 0, 0, 0, 6, 0, 0, 0, 44, 0, 0, 0, 66, 0, 0, 0, 69, 0, 0, 0, 80, 0, 0, 0, 91, 0, 0, 0, 109, 0, 0, 0, 120]
abbrev dktX1_sign_1 : List UInt8 := dkwX1_sign_1 ++ dktX1_sign_2
def dkwX1_sign_0 : List UInt8 := [43, 182, 0, 107]
abbrev dktX1_sign_0 : List UInt8 := dkwX1_sign_0 ++ dktX1_sign_1
theorem dksX1_sign_0 : cX1_sign.data.toList.drop 0 = dktX1_sign_0 := by decide +kernel
theorem dksX1_sign_1 : cX1_sign.data.toList.drop 4 = dktX1_sign_1 := dk_seg dksX1_sign_0 4 rfl rfl
theorem dksX1_sign_2 : cX1_sign.data.toList.drop 48 = dktX1_sign_2 := dk_seg dksX1_sign_1 44 rfl rfl
theorem dksX1_sign_3 : cX1_sign.data.toList.drop 72 = dktX1_sign_3 := dk_seg dksX1_sign_2 24 rfl rfl
theorem dksX1_sign_4 : cX1_sign.data.toList.drop 96 = dktX1_sign_4 := dk_seg dksX1_sign_3 24 rfl rfl
theorem dksX1_sign_5 : cX1_sign.data.toList.drop 120 = dktX1_sign_5 := dk_seg dksX1_sign_4 24 rfl rfl
theorem dX1_sign_0 : decode cX1_sign 0 = .ok (.aload_n 1, 1) := dk_43 (dk_at dksX1_sign_0 0 rfl rfl)
theorem dX1_sign_1 : decode cX1_sign 1 = .ok (.invokevirtual 107, 3) := dk_182 0 107 (dk_at dksX1_sign_0 1 rfl rfl)
theorem dX1_sign_4 : decode cX1_sign 4 = .ok (.tableswitch 123 0 6 #[44, 66, 69, 80, 91, 109, 120], 44) := by decide +kernel
theorem dX1_sign_48 : decode cX1_sign 48 = .ok (.aload_n 0, 1) := dk_42 (dk_at dksX1_sign_2 0 rfl rfl)
theorem dX1_sign_49 : decode cX1_sign 49 = .ok (.getfield 13, 3) := dk_180 0 13 (dk_at dksX1_sign_2 1 rfl rfl)
theorem dX1_sign_52 : decode cX1_sign 52 = .ok (.aload_n 1, 1) := dk_43 (dk_at dksX1_sign_2 4 rfl rfl)
theorem dX1_sign_53 : decode cX1_sign 53 = .ok (.getfield 78, 3) := dk_180 0 78 (dk_at dksX1_sign_2 5 rfl rfl)
theorem dX1_sign_56 : decode cX1_sign 56 = .ok (.invokevirtual 243, 3) := dk_182 0 243 (dk_at dksX1_sign_2 8 rfl rfl)
theorem dX1_sign_59 : decode cX1_sign 59 = .ok (.ifCond .ne 8, 3) := dk_154 0 8 (dk_at dksX1_sign_2 11 rfl rfl)
theorem dX1_sign_62 : decode cX1_sign 62 = .ok (.bipush 46, 2) := dk_16 46 (dk_at dksX1_sign_2 14 rfl rfl)
theorem dX1_sign_64 : decode cX1_sign 64 = .ok (.goto 5, 3) := dk_167 0 5 (dk_at dksX1_sign_2 16 rfl rfl)
theorem dX1_sign_67 : decode cX1_sign 67 = .ok (.bipush 43, 2) := dk_16 43 (dk_at dksX1_sign_2 19 rfl rfl)
theorem dX1_sign_69 : decode cX1_sign 69 = .ok (.ireturn, 1) := dk_172 (dk_at dksX1_sign_2 21 rfl rfl)
theorem dX1_sign_70 : decode cX1_sign 70 = .ok (.bipush 35, 2) := dk_16 35 (dk_at dksX1_sign_2 22 rfl rfl)
theorem dX1_sign_72 : decode cX1_sign 72 = .ok (.ireturn, 1) := dk_172 (dk_at dksX1_sign_3 0 rfl rfl)
theorem dX1_sign_73 : decode cX1_sign 73 = .ok (.ldc_w 343, 3) := dk_19 1 87 (dk_at dksX1_sign_3 1 rfl rfl)
theorem dX1_sign_76 : decode cX1_sign 76 = .ok (.aload_n 1, 1) := dk_43 (dk_at dksX1_sign_3 4 rfl rfl)
theorem dX1_sign_77 : decode cX1_sign 77 = .ok (.invokevirtual 183, 3) := dk_182 0 183 (dk_at dksX1_sign_3 5 rfl rfl)
theorem dX1_sign_80 : decode cX1_sign 80 = .ok (.invokevirtual 345, 3) := dk_182 1 89 (dk_at dksX1_sign_3 8 rfl rfl)
theorem dX1_sign_83 : decode cX1_sign 83 = .ok (.ireturn, 1) := dk_172 (dk_at dksX1_sign_3 11 rfl rfl)
theorem dX1_sign_84 : decode cX1_sign 84 = .ok (.ldc_w 351, 3) := dk_19 1 95 (dk_at dksX1_sign_3 12 rfl rfl)
theorem dX1_sign_87 : decode cX1_sign 87 = .ok (.aload_n 1, 1) := dk_43 (dk_at dksX1_sign_3 15 rfl rfl)
theorem dX1_sign_88 : decode cX1_sign 88 = .ok (.invokevirtual 183, 3) := dk_182 0 183 (dk_at dksX1_sign_3 16 rfl rfl)
theorem dX1_sign_91 : decode cX1_sign 91 = .ok (.invokevirtual 345, 3) := dk_182 1 89 (dk_at dksX1_sign_3 19 rfl rfl)
theorem dX1_sign_94 : decode cX1_sign 94 = .ok (.ireturn, 1) := dk_172 (dk_at dksX1_sign_3 22 rfl rfl)
theorem dX1_sign_95 : decode cX1_sign 95 = .ok (.aload_n 1, 1) := dk_43 (dk_at dksX1_sign_3 23 rfl rfl)
theorem dX1_sign_96 : decode cX1_sign 96 = .ok (.checkcast 58, 3) := dk_192 0 58 (dk_at dksX1_sign_4 0 rfl rfl)
theorem dX1_sign_99 : decode cX1_sign 99 = .ok (.invokevirtual 281, 3) := dk_182 1 25 (dk_at dksX1_sign_4 3 rfl rfl)
theorem dX1_sign_102 : decode cX1_sign 102 = .ok (.ifCond .eq 8, 3) := dk_153 0 8 (dk_at dksX1_sign_4 6 rfl rfl)
theorem dX1_sign_105 : decode cX1_sign 105 = .ok (.bipush 79, 2) := dk_16 79 (dk_at dksX1_sign_4 9 rfl rfl)
theorem dX1_sign_107 : decode cX1_sign 107 = .ok (.goto 5, 3) := dk_167 0 5 (dk_at dksX1_sign_4 11 rfl rfl)
theorem dX1_sign_110 : decode cX1_sign 110 = .ok (.bipush 68, 2) := dk_16 68 (dk_at dksX1_sign_4 14 rfl rfl)
theorem dX1_sign_112 : decode cX1_sign 112 = .ok (.ireturn, 1) := dk_172 (dk_at dksX1_sign_4 16 rfl rfl)
theorem dX1_sign_113 : decode cX1_sign 113 = .ok (.ldc_w 353, 3) := dk_19 1 97 (dk_at dksX1_sign_4 17 rfl rfl)
theorem dX1_sign_116 : decode cX1_sign 116 = .ok (.aload_n 1, 1) := dk_43 (dk_at dksX1_sign_4 20 rfl rfl)
theorem dX1_sign_117 : decode cX1_sign 117 = .ok (.invokevirtual 183, 3) := dk_182 0 183 (dk_at dksX1_sign_4 21 rfl rfl)
theorem dX1_sign_120 : decode cX1_sign 120 = .ok (.invokevirtual 345, 3) := dk_182 1 89 (dk_at dksX1_sign_5 0 rfl rfl)
theorem dX1_sign_123 : decode cX1_sign 123 = .ok (.ireturn, 1) := dk_172 (dk_at dksX1_sign_5 3 rfl rfl)
theorem dX1_sign_124 : decode cX1_sign 124 = .ok (.bipush 111, 2) := dk_16 111 (dk_at dksX1_sign_5 4 rfl rfl)
theorem dX1_sign_126 : decode cX1_sign 126 = .ok (.ireturn, 1) := dk_172 (dk_at dksX1_sign_5 6 rfl rfl)
theorem dX1_sign_127 : decode cX1_sign 127 = .ok (.bipush 42, 2) := dk_16 42 (dk_at dksX1_sign_5 7 rfl rfl)
theorem dX1_sign_129 : decode cX1_sign 129 = .ok (.ireturn, 1) := dk_172 (dk_at dksX1_sign_5 9 rfl rfl)
abbrev cX1_reportByte : ByteArray := prog_1_method_50_code
def yX1_reportByte : MethodName := ⟨RX1, "reportByte", "(I)I"⟩
def dkwX1_reportByte_1 : List UInt8 := [182, 1, 89, 167, 0, 4, 2, 172]
abbrev dktX1_reportByte_1 : List UInt8 := dkwX1_reportByte_1 ++ []
def dkwX1_reportByte_0 : List UInt8 := [27, 3, 42, 180, 0, 40, 182, 1, 119, 4, 100, 184, 0, 165, 153, 0, 14, 42, 180, 0, 40, 27]
abbrev dktX1_reportByte_0 : List UInt8 := dkwX1_reportByte_0 ++ dktX1_reportByte_1
theorem dksX1_reportByte_0 : cX1_reportByte.data.toList.drop 0 = dktX1_reportByte_0 := by decide +kernel
theorem dksX1_reportByte_1 : cX1_reportByte.data.toList.drop 22 = dktX1_reportByte_1 := dk_seg dksX1_reportByte_0 22 rfl rfl
theorem dX1_reportByte_0 : decode cX1_reportByte 0 = .ok (.iload_n 1, 1) := dk_27 (dk_at dksX1_reportByte_0 0 rfl rfl)
theorem dX1_reportByte_1 : decode cX1_reportByte 1 = .ok (.iconst 0, 1) := dk_3 (dk_at dksX1_reportByte_0 1 rfl rfl)
theorem dX1_reportByte_2 : decode cX1_reportByte 2 = .ok (.aload_n 0, 1) := dk_42 (dk_at dksX1_reportByte_0 2 rfl rfl)
theorem dX1_reportByte_3 : decode cX1_reportByte 3 = .ok (.getfield 40, 3) := dk_180 0 40 (dk_at dksX1_reportByte_0 3 rfl rfl)
theorem dX1_reportByte_6 : decode cX1_reportByte 6 = .ok (.invokevirtual 375, 3) := dk_182 1 119 (dk_at dksX1_reportByte_0 6 rfl rfl)
theorem dX1_reportByte_9 : decode cX1_reportByte 9 = .ok (.iconst 1, 1) := dk_4 (dk_at dksX1_reportByte_0 9 rfl rfl)
theorem dX1_reportByte_10 : decode cX1_reportByte 10 = .ok (.isub, 1) := dk_100 (dk_at dksX1_reportByte_0 10 rfl rfl)
theorem dX1_reportByte_11 : decode cX1_reportByte 11 = .ok (.invokestatic 165, 3) := dk_184 0 165 (dk_at dksX1_reportByte_0 11 rfl rfl)
theorem dX1_reportByte_14 : decode cX1_reportByte 14 = .ok (.ifCond .eq 14, 3) := dk_153 0 14 (dk_at dksX1_reportByte_0 14 rfl rfl)
theorem dX1_reportByte_17 : decode cX1_reportByte 17 = .ok (.aload_n 0, 1) := dk_42 (dk_at dksX1_reportByte_0 17 rfl rfl)
theorem dX1_reportByte_18 : decode cX1_reportByte 18 = .ok (.getfield 40, 3) := dk_180 0 40 (dk_at dksX1_reportByte_0 18 rfl rfl)
theorem dX1_reportByte_21 : decode cX1_reportByte 21 = .ok (.iload_n 1, 1) := dk_27 (dk_at dksX1_reportByte_0 21 rfl rfl)
theorem dX1_reportByte_22 : decode cX1_reportByte 22 = .ok (.invokevirtual 345, 3) := dk_182 1 89 (dk_at dksX1_reportByte_1 0 rfl rfl)
theorem dX1_reportByte_25 : decode cX1_reportByte 25 = .ok (.goto 4, 3) := dk_167 0 4 (dk_at dksX1_reportByte_1 3 rfl rfl)
theorem dX1_reportByte_28 : decode cX1_reportByte 28 = .ok (.iconst (-1), 1) := dk_2 (dk_at dksX1_reportByte_1 6 rfl rfl)
theorem dX1_reportByte_29 : decode cX1_reportByte 29 = .ok (.ireturn, 1) := dk_172 (dk_at dksX1_reportByte_1 7 rfl rfl)
abbrev cX1_putWall : ByteArray := prog_1_method_12_code
def yX1_putWall : MethodName := ⟨RX1, "putWall", "(II)I"⟩
def dkwX1_putWall_2 : List UInt8 := [182, 0, 161, 172]
abbrev dktX1_putWall_2 : List UInt8 := dkwX1_putWall_2 ++ []
def dkwX1_putWall_1 : List UInt8 := [167, 0, 26, 42, 4, 189, 0, 51, 89, 3, 187, 0, 154, 89, 29, 183, 0, 156, 83, 182, 0, 157, 3]
abbrev dktX1_putWall_1 : List UInt8 := dkwX1_putWall_1 ++ dktX1_putWall_2
def dkwX1_putWall_0 : List UInt8 := [42, 27, 28, 182, 0, 146, 62, 42, 29, 4, 182, 0, 150, 54, 4, 21, 4, 153, 0, 8, 21, 4]
abbrev dktX1_putWall_0 : List UInt8 := dkwX1_putWall_0 ++ dktX1_putWall_1
theorem dksX1_putWall_0 : cX1_putWall.data.toList.drop 0 = dktX1_putWall_0 := by decide +kernel
theorem dksX1_putWall_1 : cX1_putWall.data.toList.drop 22 = dktX1_putWall_1 := dk_seg dksX1_putWall_0 22 rfl rfl
theorem dksX1_putWall_2 : cX1_putWall.data.toList.drop 45 = dktX1_putWall_2 := dk_seg dksX1_putWall_1 23 rfl rfl
theorem dX1_putWall_0 : decode cX1_putWall 0 = .ok (.aload_n 0, 1) := dk_42 (dk_at dksX1_putWall_0 0 rfl rfl)
theorem dX1_putWall_1 : decode cX1_putWall 1 = .ok (.iload_n 1, 1) := dk_27 (dk_at dksX1_putWall_0 1 rfl rfl)
theorem dX1_putWall_2 : decode cX1_putWall 2 = .ok (.iload_n 2, 1) := dk_28 (dk_at dksX1_putWall_0 2 rfl rfl)
theorem dX1_putWall_3 : decode cX1_putWall 3 = .ok (.invokevirtual 146, 3) := dk_182 0 146 (dk_at dksX1_putWall_0 3 rfl rfl)
theorem dX1_putWall_6 : decode cX1_putWall 6 = .ok (.istore_n 3, 1) := dk_62 (dk_at dksX1_putWall_0 6 rfl rfl)
theorem dX1_putWall_7 : decode cX1_putWall 7 = .ok (.aload_n 0, 1) := dk_42 (dk_at dksX1_putWall_0 7 rfl rfl)
theorem dX1_putWall_8 : decode cX1_putWall 8 = .ok (.iload_n 3, 1) := dk_29 (dk_at dksX1_putWall_0 8 rfl rfl)
theorem dX1_putWall_9 : decode cX1_putWall 9 = .ok (.iconst 1, 1) := dk_4 (dk_at dksX1_putWall_0 9 rfl rfl)
theorem dX1_putWall_10 : decode cX1_putWall 10 = .ok (.invokevirtual 150, 3) := dk_182 0 150 (dk_at dksX1_putWall_0 10 rfl rfl)
theorem dX1_putWall_13 : decode cX1_putWall 13 = .ok (.istore 4, 2) := dk_54 4 (dk_at dksX1_putWall_0 13 rfl rfl)
theorem dX1_putWall_15 : decode cX1_putWall 15 = .ok (.iload 4, 2) := dk_21 4 (dk_at dksX1_putWall_0 15 rfl rfl)
theorem dX1_putWall_17 : decode cX1_putWall 17 = .ok (.ifCond .eq 8, 3) := dk_153 0 8 (dk_at dksX1_putWall_0 17 rfl rfl)
theorem dX1_putWall_20 : decode cX1_putWall 20 = .ok (.iload 4, 2) := dk_21 4 (dk_at dksX1_putWall_0 20 rfl rfl)
theorem dX1_putWall_22 : decode cX1_putWall 22 = .ok (.goto 26, 3) := dk_167 0 26 (dk_at dksX1_putWall_1 0 rfl rfl)
theorem dX1_putWall_25 : decode cX1_putWall 25 = .ok (.aload_n 0, 1) := dk_42 (dk_at dksX1_putWall_1 3 rfl rfl)
theorem dX1_putWall_26 : decode cX1_putWall 26 = .ok (.iconst 1, 1) := dk_4 (dk_at dksX1_putWall_1 4 rfl rfl)
theorem dX1_putWall_27 : decode cX1_putWall 27 = .ok (.anewarray 51, 3) := dk_189 0 51 (dk_at dksX1_putWall_1 5 rfl rfl)
theorem dX1_putWall_30 : decode cX1_putWall 30 = .ok (.dup, 1) := dk_89 (dk_at dksX1_putWall_1 8 rfl rfl)
theorem dX1_putWall_31 : decode cX1_putWall 31 = .ok (.iconst 0, 1) := dk_3 (dk_at dksX1_putWall_1 9 rfl rfl)
theorem dX1_putWall_32 : decode cX1_putWall 32 = .ok (.new 154, 3) := dk_187 0 154 (dk_at dksX1_putWall_1 10 rfl rfl)
theorem dX1_putWall_35 : decode cX1_putWall 35 = .ok (.dup, 1) := dk_89 (dk_at dksX1_putWall_1 13 rfl rfl)
theorem dX1_putWall_36 : decode cX1_putWall 36 = .ok (.iload_n 3, 1) := dk_29 (dk_at dksX1_putWall_1 14 rfl rfl)
theorem dX1_putWall_37 : decode cX1_putWall 37 = .ok (.invokespecial 156, 3) := dk_183 0 156 (dk_at dksX1_putWall_1 15 rfl rfl)
theorem dX1_putWall_40 : decode cX1_putWall 40 = .ok (.aastore, 1) := dk_83 (dk_at dksX1_putWall_1 18 rfl rfl)
theorem dX1_putWall_41 : decode cX1_putWall 41 = .ok (.invokevirtual 157, 3) := dk_182 0 157 (dk_at dksX1_putWall_1 19 rfl rfl)
theorem dX1_putWall_44 : decode cX1_putWall 44 = .ok (.iconst 0, 1) := dk_3 (dk_at dksX1_putWall_1 22 rfl rfl)
theorem dX1_putWall_45 : decode cX1_putWall 45 = .ok (.invokevirtual 161, 3) := dk_182 0 161 (dk_at dksX1_putWall_2 0 rfl rfl)
theorem dX1_putWall_48 : decode cX1_putWall 48 = .ok (.ireturn, 1) := dk_172 (dk_at dksX1_putWall_2 3 rfl rfl)
abbrev cX1_cellOf : ByteArray := prog_1_method_7_code
def yX1_cellOf : MethodName := ⟨RX1, "cellOf", "(II)I"⟩
def dkwX1_cellOf_1 : List UInt8 := [27, 96, 172]
abbrev dktX1_cellOf_1 : List UInt8 := dkwX1_cellOf_1 ++ []
def dkwX1_cellOf_0 : List UInt8 := [42, 180, 0, 47, 27, 28, 182, 0, 100, 154, 0, 11, 187, 0, 104, 89, 183, 0, 106, 191, 16, 10, 28, 104]
abbrev dktX1_cellOf_0 : List UInt8 := dkwX1_cellOf_0 ++ dktX1_cellOf_1
theorem dksX1_cellOf_0 : cX1_cellOf.data.toList.drop 0 = dktX1_cellOf_0 := by decide +kernel
theorem dksX1_cellOf_1 : cX1_cellOf.data.toList.drop 24 = dktX1_cellOf_1 := dk_seg dksX1_cellOf_0 24 rfl rfl
theorem dX1_cellOf_0 : decode cX1_cellOf 0 = .ok (.aload_n 0, 1) := dk_42 (dk_at dksX1_cellOf_0 0 rfl rfl)
theorem dX1_cellOf_1 : decode cX1_cellOf 1 = .ok (.getfield 47, 3) := dk_180 0 47 (dk_at dksX1_cellOf_0 1 rfl rfl)
theorem dX1_cellOf_4 : decode cX1_cellOf 4 = .ok (.iload_n 1, 1) := dk_27 (dk_at dksX1_cellOf_0 4 rfl rfl)
theorem dX1_cellOf_5 : decode cX1_cellOf 5 = .ok (.iload_n 2, 1) := dk_28 (dk_at dksX1_cellOf_0 5 rfl rfl)
theorem dX1_cellOf_6 : decode cX1_cellOf 6 = .ok (.invokevirtual 100, 3) := dk_182 0 100 (dk_at dksX1_cellOf_0 6 rfl rfl)
theorem dX1_cellOf_9 : decode cX1_cellOf 9 = .ok (.ifCond .ne 11, 3) := dk_154 0 11 (dk_at dksX1_cellOf_0 9 rfl rfl)
theorem dX1_cellOf_12 : decode cX1_cellOf 12 = .ok (.new 104, 3) := dk_187 0 104 (dk_at dksX1_cellOf_0 12 rfl rfl)
theorem dX1_cellOf_15 : decode cX1_cellOf 15 = .ok (.dup, 1) := dk_89 (dk_at dksX1_cellOf_0 15 rfl rfl)
theorem dX1_cellOf_16 : decode cX1_cellOf 16 = .ok (.invokespecial 106, 3) := dk_183 0 106 (dk_at dksX1_cellOf_0 16 rfl rfl)
theorem dX1_cellOf_19 : decode cX1_cellOf 19 = .ok (.athrow, 1) := dk_191 (dk_at dksX1_cellOf_0 19 rfl rfl)
theorem dX1_cellOf_20 : decode cX1_cellOf 20 = .ok (.bipush 10, 2) := dk_16 10 (dk_at dksX1_cellOf_0 20 rfl rfl)
theorem dX1_cellOf_22 : decode cX1_cellOf 22 = .ok (.iload_n 2, 1) := dk_28 (dk_at dksX1_cellOf_0 22 rfl rfl)
theorem dX1_cellOf_23 : decode cX1_cellOf 23 = .ok (.imul, 1) := dk_104 (dk_at dksX1_cellOf_0 23 rfl rfl)
theorem dX1_cellOf_24 : decode cX1_cellOf 24 = .ok (.iload_n 1, 1) := dk_27 (dk_at dksX1_cellOf_1 0 rfl rfl)
theorem dX1_cellOf_25 : decode cX1_cellOf 25 = .ok (.iadd, 1) := dk_96 (dk_at dksX1_cellOf_1 1 rfl rfl)
theorem dX1_cellOf_26 : decode cX1_cellOf 26 = .ok (.ireturn, 1) := dk_172 (dk_at dksX1_cellOf_1 2 rfl rfl)
abbrev cX1_whyNotLay : ByteArray := prog_1_method_9_code
def yX1_whyNotLay : MethodName := ⟨RX1, "whyNotLay", "(IZ)I"⟩
def dkwX1_whyNotLay_1 : List UInt8 := [28, 153, 0, 7, 3, 167, 0, 5, 16, 252, 172]
abbrev dktX1_whyNotLay_1 : List UInt8 := dkwX1_whyNotLay_1 ++ []
def dkwX1_whyNotLay_0 : List UInt8 := [42, 180, 0, 47, 180, 0, 110, 158, 0, 6, 16, 254, 172, 42, 27, 182, 0, 113, 154, 0, 6, 16, 253, 172]
abbrev dktX1_whyNotLay_0 : List UInt8 := dkwX1_whyNotLay_0 ++ dktX1_whyNotLay_1
theorem dksX1_whyNotLay_0 : cX1_whyNotLay.data.toList.drop 0 = dktX1_whyNotLay_0 := by decide +kernel
theorem dksX1_whyNotLay_1 : cX1_whyNotLay.data.toList.drop 24 = dktX1_whyNotLay_1 := dk_seg dksX1_whyNotLay_0 24 rfl rfl
theorem dX1_whyNotLay_0 : decode cX1_whyNotLay 0 = .ok (.aload_n 0, 1) := dk_42 (dk_at dksX1_whyNotLay_0 0 rfl rfl)
theorem dX1_whyNotLay_1 : decode cX1_whyNotLay 1 = .ok (.getfield 47, 3) := dk_180 0 47 (dk_at dksX1_whyNotLay_0 1 rfl rfl)
theorem dX1_whyNotLay_4 : decode cX1_whyNotLay 4 = .ok (.getfield 110, 3) := dk_180 0 110 (dk_at dksX1_whyNotLay_0 4 rfl rfl)
theorem dX1_whyNotLay_7 : decode cX1_whyNotLay 7 = .ok (.ifCond .le 6, 3) := dk_158 0 6 (dk_at dksX1_whyNotLay_0 7 rfl rfl)
theorem dX1_whyNotLay_10 : decode cX1_whyNotLay 10 = .ok (.bipush (-2), 2) := dk_16 254 (dk_at dksX1_whyNotLay_0 10 rfl rfl)
theorem dX1_whyNotLay_12 : decode cX1_whyNotLay 12 = .ok (.ireturn, 1) := dk_172 (dk_at dksX1_whyNotLay_0 12 rfl rfl)
theorem dX1_whyNotLay_13 : decode cX1_whyNotLay 13 = .ok (.aload_n 0, 1) := dk_42 (dk_at dksX1_whyNotLay_0 13 rfl rfl)
theorem dX1_whyNotLay_14 : decode cX1_whyNotLay 14 = .ok (.iload_n 1, 1) := dk_27 (dk_at dksX1_whyNotLay_0 14 rfl rfl)
theorem dX1_whyNotLay_15 : decode cX1_whyNotLay 15 = .ok (.invokevirtual 113, 3) := dk_182 0 113 (dk_at dksX1_whyNotLay_0 15 rfl rfl)
theorem dX1_whyNotLay_18 : decode cX1_whyNotLay 18 = .ok (.ifCond .ne 6, 3) := dk_154 0 6 (dk_at dksX1_whyNotLay_0 18 rfl rfl)
theorem dX1_whyNotLay_21 : decode cX1_whyNotLay 21 = .ok (.bipush (-3), 2) := dk_16 253 (dk_at dksX1_whyNotLay_0 21 rfl rfl)
theorem dX1_whyNotLay_23 : decode cX1_whyNotLay 23 = .ok (.ireturn, 1) := dk_172 (dk_at dksX1_whyNotLay_0 23 rfl rfl)
theorem dX1_whyNotLay_24 : decode cX1_whyNotLay 24 = .ok (.iload_n 2, 1) := dk_28 (dk_at dksX1_whyNotLay_1 0 rfl rfl)
theorem dX1_whyNotLay_25 : decode cX1_whyNotLay 25 = .ok (.ifCond .eq 7, 3) := dk_153 0 7 (dk_at dksX1_whyNotLay_1 1 rfl rfl)
theorem dX1_whyNotLay_28 : decode cX1_whyNotLay 28 = .ok (.iconst 0, 1) := dk_3 (dk_at dksX1_whyNotLay_1 4 rfl rfl)
theorem dX1_whyNotLay_29 : decode cX1_whyNotLay 29 = .ok (.goto 5, 3) := dk_167 0 5 (dk_at dksX1_whyNotLay_1 5 rfl rfl)
theorem dX1_whyNotLay_32 : decode cX1_whyNotLay 32 = .ok (.bipush (-4), 2) := dk_16 252 (dk_at dksX1_whyNotLay_1 8 rfl rfl)
theorem dX1_whyNotLay_34 : decode cX1_whyNotLay 34 = .ok (.ireturn, 1) := dk_172 (dk_at dksX1_whyNotLay_1 10 rfl rfl)
abbrev cX1_isEmpty : ByteArray := prog_1_method_8_code
def yX1_isEmpty : MethodName := ⟨RX1, "isEmpty", "(I)Z"⟩
def dkwX1_isEmpty_0 : List UInt8 := [42, 180, 0, 47, 180, 0, 74, 27, 50, 182, 0, 107, 154, 0, 7, 4, 167, 0, 4, 3, 172]
abbrev dktX1_isEmpty_0 : List UInt8 := dkwX1_isEmpty_0 ++ []
theorem dksX1_isEmpty_0 : cX1_isEmpty.data.toList.drop 0 = dktX1_isEmpty_0 := by decide +kernel
theorem dX1_isEmpty_0 : decode cX1_isEmpty 0 = .ok (.aload_n 0, 1) := dk_42 (dk_at dksX1_isEmpty_0 0 rfl rfl)
theorem dX1_isEmpty_1 : decode cX1_isEmpty 1 = .ok (.getfield 47, 3) := dk_180 0 47 (dk_at dksX1_isEmpty_0 1 rfl rfl)
theorem dX1_isEmpty_4 : decode cX1_isEmpty 4 = .ok (.getfield 74, 3) := dk_180 0 74 (dk_at dksX1_isEmpty_0 4 rfl rfl)
theorem dX1_isEmpty_7 : decode cX1_isEmpty 7 = .ok (.iload_n 1, 1) := dk_27 (dk_at dksX1_isEmpty_0 7 rfl rfl)
theorem dX1_isEmpty_8 : decode cX1_isEmpty 8 = .ok (.aaload, 1) := dk_50 (dk_at dksX1_isEmpty_0 8 rfl rfl)
theorem dX1_isEmpty_9 : decode cX1_isEmpty 9 = .ok (.invokevirtual 107, 3) := dk_182 0 107 (dk_at dksX1_isEmpty_0 9 rfl rfl)
theorem dX1_isEmpty_12 : decode cX1_isEmpty 12 = .ok (.ifCond .ne 7, 3) := dk_154 0 7 (dk_at dksX1_isEmpty_0 12 rfl rfl)
theorem dX1_isEmpty_15 : decode cX1_isEmpty 15 = .ok (.iconst 1, 1) := dk_4 (dk_at dksX1_isEmpty_0 15 rfl rfl)
theorem dX1_isEmpty_16 : decode cX1_isEmpty 16 = .ok (.goto 4, 3) := dk_167 0 4 (dk_at dksX1_isEmpty_0 16 rfl rfl)
theorem dX1_isEmpty_19 : decode cX1_isEmpty 19 = .ok (.iconst 0, 1) := dk_3 (dk_at dksX1_isEmpty_0 19 rfl rfl)
theorem dX1_isEmpty_20 : decode cX1_isEmpty 20 = .ok (.ireturn, 1) := dk_172 (dk_at dksX1_isEmpty_0 20 rfl rfl)
abbrev cX1_put_2 : ByteArray := prog_1_method_10_code
def yX1_put_2 : MethodName := ⟨RX1, "put", "([LMirrorDoors$Cell;)LMirrorDoors$World;"⟩
def dkwX1_put_2_0 : List UInt8 := [42, 182, 0, 117, 77, 42, 43, 182, 0, 63, 44, 182, 0, 71, 44, 176]
abbrev dktX1_put_2_0 : List UInt8 := dkwX1_put_2_0 ++ []
theorem dksX1_put_2_0 : cX1_put_2.data.toList.drop 0 = dktX1_put_2_0 := by decide +kernel
theorem dX1_put_2_0 : decode cX1_put_2 0 = .ok (.aload_n 0, 1) := dk_42 (dk_at dksX1_put_2_0 0 rfl rfl)
theorem dX1_put_2_1 : decode cX1_put_2 1 = .ok (.invokevirtual 117, 3) := dk_182 0 117 (dk_at dksX1_put_2_0 1 rfl rfl)
theorem dX1_put_2_4 : decode cX1_put_2 4 = .ok (.astore_n 2, 1) := dk_77 (dk_at dksX1_put_2_0 4 rfl rfl)
theorem dX1_put_2_5 : decode cX1_put_2 5 = .ok (.aload_n 0, 1) := dk_42 (dk_at dksX1_put_2_0 5 rfl rfl)
theorem dX1_put_2_6 : decode cX1_put_2 6 = .ok (.aload_n 1, 1) := dk_43 (dk_at dksX1_put_2_0 6 rfl rfl)
theorem dX1_put_2_7 : decode cX1_put_2 7 = .ok (.invokevirtual 63, 3) := dk_182 0 63 (dk_at dksX1_put_2_0 7 rfl rfl)
theorem dX1_put_2_10 : decode cX1_put_2 10 = .ok (.aload_n 2, 1) := dk_44 (dk_at dksX1_put_2_0 10 rfl rfl)
theorem dX1_put_2_11 : decode cX1_put_2 11 = .ok (.invokevirtual 71, 3) := dk_182 0 71 (dk_at dksX1_put_2_0 11 rfl rfl)
theorem dX1_put_2_14 : decode cX1_put_2 14 = .ok (.aload_n 2, 1) := dk_44 (dk_at dksX1_put_2_0 14 rfl rfl)
theorem dX1_put_2_15 : decode cX1_put_2 15 = .ok (.areturn, 1) := dk_176 (dk_at dksX1_put_2_0 15 rfl rfl)
abbrev cX1_putMirror : ByteArray := prog_1_method_13_code
def yX1_putMirror : MethodName := ⟨RX1, "putMirror", "(IIZII)I"⟩
def dkwX1_putMirror_4 : List UInt8 := [189, 0, 51, 89, 3, 25, 8, 83, 182, 0, 157, 25, 8, 182, 0, 173, 172]
abbrev dktX1_putMirror_4 : List UInt8 := dkwX1_putMirror_4 ++ []
def dkwX1_putMirror_3 : List UInt8 := [153, 0, 6, 21, 7, 172, 187, 0, 53, 89, 21, 6, 29, 21, 4, 21, 5, 183, 0, 55, 58, 8, 42, 4]
abbrev dktX1_putMirror_3 : List UInt8 := dkwX1_putMirror_3 ++ dktX1_putMirror_4
def dkwX1_putMirror_2 : List UInt8 := [182, 0, 131, 182, 0, 135, 16, 12, 162, 0, 7, 4, 167, 0, 4, 3, 182, 0, 150, 54, 7, 21, 7]
abbrev dktX1_putMirror_2 : List UInt8 := dkwX1_putMirror_2 ++ dktX1_putMirror_3
def dkwX1_putMirror_1 : List UInt8 := [184, 0, 165, 153, 0, 7, 4, 167, 0, 4, 3, 184, 0, 169, 42, 21, 6, 42, 180, 0, 47, 4]
abbrev dktX1_putMirror_1 : List UInt8 := dkwX1_putMirror_1 ++ dktX1_putMirror_2
def dkwX1_putMirror_0 : List UInt8 := [42, 27, 28, 182, 0, 146, 54, 6, 21, 4, 3, 4, 184, 0, 165, 153, 0, 17, 21, 5, 3, 5]
abbrev dktX1_putMirror_0 : List UInt8 := dkwX1_putMirror_0 ++ dktX1_putMirror_1
theorem dksX1_putMirror_0 : cX1_putMirror.data.toList.drop 0 = dktX1_putMirror_0 := by decide +kernel
theorem dksX1_putMirror_1 : cX1_putMirror.data.toList.drop 22 = dktX1_putMirror_1 := dk_seg dksX1_putMirror_0 22 rfl rfl
theorem dksX1_putMirror_2 : cX1_putMirror.data.toList.drop 44 = dktX1_putMirror_2 := dk_seg dksX1_putMirror_1 22 rfl rfl
theorem dksX1_putMirror_3 : cX1_putMirror.data.toList.drop 67 = dktX1_putMirror_3 := dk_seg dksX1_putMirror_2 23 rfl rfl
theorem dksX1_putMirror_4 : cX1_putMirror.data.toList.drop 91 = dktX1_putMirror_4 := dk_seg dksX1_putMirror_3 24 rfl rfl
theorem dX1_putMirror_0 : decode cX1_putMirror 0 = .ok (.aload_n 0, 1) := dk_42 (dk_at dksX1_putMirror_0 0 rfl rfl)
theorem dX1_putMirror_1 : decode cX1_putMirror 1 = .ok (.iload_n 1, 1) := dk_27 (dk_at dksX1_putMirror_0 1 rfl rfl)
theorem dX1_putMirror_2 : decode cX1_putMirror 2 = .ok (.iload_n 2, 1) := dk_28 (dk_at dksX1_putMirror_0 2 rfl rfl)
theorem dX1_putMirror_3 : decode cX1_putMirror 3 = .ok (.invokevirtual 146, 3) := dk_182 0 146 (dk_at dksX1_putMirror_0 3 rfl rfl)
theorem dX1_putMirror_6 : decode cX1_putMirror 6 = .ok (.istore 6, 2) := dk_54 6 (dk_at dksX1_putMirror_0 6 rfl rfl)
theorem dX1_putMirror_8 : decode cX1_putMirror 8 = .ok (.iload 4, 2) := dk_21 4 (dk_at dksX1_putMirror_0 8 rfl rfl)
theorem dX1_putMirror_10 : decode cX1_putMirror 10 = .ok (.iconst 0, 1) := dk_3 (dk_at dksX1_putMirror_0 10 rfl rfl)
theorem dX1_putMirror_11 : decode cX1_putMirror 11 = .ok (.iconst 1, 1) := dk_4 (dk_at dksX1_putMirror_0 11 rfl rfl)
theorem dX1_putMirror_12 : decode cX1_putMirror 12 = .ok (.invokestatic 165, 3) := dk_184 0 165 (dk_at dksX1_putMirror_0 12 rfl rfl)
theorem dX1_putMirror_15 : decode cX1_putMirror 15 = .ok (.ifCond .eq 17, 3) := dk_153 0 17 (dk_at dksX1_putMirror_0 15 rfl rfl)
theorem dX1_putMirror_18 : decode cX1_putMirror 18 = .ok (.iload 5, 2) := dk_21 5 (dk_at dksX1_putMirror_0 18 rfl rfl)
theorem dX1_putMirror_20 : decode cX1_putMirror 20 = .ok (.iconst 0, 1) := dk_3 (dk_at dksX1_putMirror_0 20 rfl rfl)
theorem dX1_putMirror_21 : decode cX1_putMirror 21 = .ok (.iconst 2, 1) := dk_5 (dk_at dksX1_putMirror_0 21 rfl rfl)
theorem dX1_putMirror_22 : decode cX1_putMirror 22 = .ok (.invokestatic 165, 3) := dk_184 0 165 (dk_at dksX1_putMirror_1 0 rfl rfl)
theorem dX1_putMirror_25 : decode cX1_putMirror 25 = .ok (.ifCond .eq 7, 3) := dk_153 0 7 (dk_at dksX1_putMirror_1 3 rfl rfl)
theorem dX1_putMirror_28 : decode cX1_putMirror 28 = .ok (.iconst 1, 1) := dk_4 (dk_at dksX1_putMirror_1 6 rfl rfl)
theorem dX1_putMirror_29 : decode cX1_putMirror 29 = .ok (.goto 4, 3) := dk_167 0 4 (dk_at dksX1_putMirror_1 7 rfl rfl)
theorem dX1_putMirror_32 : decode cX1_putMirror 32 = .ok (.iconst 0, 1) := dk_3 (dk_at dksX1_putMirror_1 10 rfl rfl)
theorem dX1_putMirror_33 : decode cX1_putMirror 33 = .ok (.invokestatic 169, 3) := dk_184 0 169 (dk_at dksX1_putMirror_1 11 rfl rfl)
theorem dX1_putMirror_36 : decode cX1_putMirror 36 = .ok (.aload_n 0, 1) := dk_42 (dk_at dksX1_putMirror_1 14 rfl rfl)
theorem dX1_putMirror_37 : decode cX1_putMirror 37 = .ok (.iload 6, 2) := dk_21 6 (dk_at dksX1_putMirror_1 15 rfl rfl)
theorem dX1_putMirror_39 : decode cX1_putMirror 39 = .ok (.aload_n 0, 1) := dk_42 (dk_at dksX1_putMirror_1 17 rfl rfl)
theorem dX1_putMirror_40 : decode cX1_putMirror 40 = .ok (.getfield 47, 3) := dk_180 0 47 (dk_at dksX1_putMirror_1 18 rfl rfl)
theorem dX1_putMirror_43 : decode cX1_putMirror 43 = .ok (.iconst 1, 1) := dk_4 (dk_at dksX1_putMirror_1 21 rfl rfl)
theorem dX1_putMirror_44 : decode cX1_putMirror 44 = .ok (.invokevirtual 131, 3) := dk_182 0 131 (dk_at dksX1_putMirror_2 0 rfl rfl)
theorem dX1_putMirror_47 : decode cX1_putMirror 47 = .ok (.invokevirtual 135, 3) := dk_182 0 135 (dk_at dksX1_putMirror_2 3 rfl rfl)
theorem dX1_putMirror_50 : decode cX1_putMirror 50 = .ok (.bipush 12, 2) := dk_16 12 (dk_at dksX1_putMirror_2 6 rfl rfl)
theorem dX1_putMirror_52 : decode cX1_putMirror 52 = .ok (.if_icmp .ge 7, 3) := dk_162 0 7 (dk_at dksX1_putMirror_2 8 rfl rfl)
theorem dX1_putMirror_55 : decode cX1_putMirror 55 = .ok (.iconst 1, 1) := dk_4 (dk_at dksX1_putMirror_2 11 rfl rfl)
theorem dX1_putMirror_56 : decode cX1_putMirror 56 = .ok (.goto 4, 3) := dk_167 0 4 (dk_at dksX1_putMirror_2 12 rfl rfl)
theorem dX1_putMirror_59 : decode cX1_putMirror 59 = .ok (.iconst 0, 1) := dk_3 (dk_at dksX1_putMirror_2 15 rfl rfl)
theorem dX1_putMirror_60 : decode cX1_putMirror 60 = .ok (.invokevirtual 150, 3) := dk_182 0 150 (dk_at dksX1_putMirror_2 16 rfl rfl)
theorem dX1_putMirror_63 : decode cX1_putMirror 63 = .ok (.istore 7, 2) := dk_54 7 (dk_at dksX1_putMirror_2 19 rfl rfl)
theorem dX1_putMirror_65 : decode cX1_putMirror 65 = .ok (.iload 7, 2) := dk_21 7 (dk_at dksX1_putMirror_2 21 rfl rfl)
theorem dX1_putMirror_67 : decode cX1_putMirror 67 = .ok (.ifCond .eq 6, 3) := dk_153 0 6 (dk_at dksX1_putMirror_3 0 rfl rfl)
theorem dX1_putMirror_70 : decode cX1_putMirror 70 = .ok (.iload 7, 2) := dk_21 7 (dk_at dksX1_putMirror_3 3 rfl rfl)
theorem dX1_putMirror_72 : decode cX1_putMirror 72 = .ok (.ireturn, 1) := dk_172 (dk_at dksX1_putMirror_3 5 rfl rfl)
theorem dX1_putMirror_73 : decode cX1_putMirror 73 = .ok (.new 53, 3) := dk_187 0 53 (dk_at dksX1_putMirror_3 6 rfl rfl)
theorem dX1_putMirror_76 : decode cX1_putMirror 76 = .ok (.dup, 1) := dk_89 (dk_at dksX1_putMirror_3 9 rfl rfl)
theorem dX1_putMirror_77 : decode cX1_putMirror 77 = .ok (.iload 6, 2) := dk_21 6 (dk_at dksX1_putMirror_3 10 rfl rfl)
theorem dX1_putMirror_79 : decode cX1_putMirror 79 = .ok (.iload_n 3, 1) := dk_29 (dk_at dksX1_putMirror_3 12 rfl rfl)
theorem dX1_putMirror_80 : decode cX1_putMirror 80 = .ok (.iload 4, 2) := dk_21 4 (dk_at dksX1_putMirror_3 13 rfl rfl)
theorem dX1_putMirror_82 : decode cX1_putMirror 82 = .ok (.iload 5, 2) := dk_21 5 (dk_at dksX1_putMirror_3 15 rfl rfl)
theorem dX1_putMirror_84 : decode cX1_putMirror 84 = .ok (.invokespecial 55, 3) := dk_183 0 55 (dk_at dksX1_putMirror_3 17 rfl rfl)
theorem dX1_putMirror_87 : decode cX1_putMirror 87 = .ok (.astore 8, 2) := dk_58 8 (dk_at dksX1_putMirror_3 20 rfl rfl)
theorem dX1_putMirror_89 : decode cX1_putMirror 89 = .ok (.aload_n 0, 1) := dk_42 (dk_at dksX1_putMirror_3 22 rfl rfl)
theorem dX1_putMirror_90 : decode cX1_putMirror 90 = .ok (.iconst 1, 1) := dk_4 (dk_at dksX1_putMirror_3 23 rfl rfl)
theorem dX1_putMirror_91 : decode cX1_putMirror 91 = .ok (.anewarray 51, 3) := dk_189 0 51 (dk_at dksX1_putMirror_4 0 rfl rfl)
theorem dX1_putMirror_94 : decode cX1_putMirror 94 = .ok (.dup, 1) := dk_89 (dk_at dksX1_putMirror_4 3 rfl rfl)
theorem dX1_putMirror_95 : decode cX1_putMirror 95 = .ok (.iconst 0, 1) := dk_3 (dk_at dksX1_putMirror_4 4 rfl rfl)
theorem dX1_putMirror_96 : decode cX1_putMirror 96 = .ok (.aload 8, 2) := dk_25 8 (dk_at dksX1_putMirror_4 5 rfl rfl)
theorem dX1_putMirror_98 : decode cX1_putMirror 98 = .ok (.aastore, 1) := dk_83 (dk_at dksX1_putMirror_4 7 rfl rfl)
theorem dX1_putMirror_99 : decode cX1_putMirror 99 = .ok (.invokevirtual 157, 3) := dk_182 0 157 (dk_at dksX1_putMirror_4 8 rfl rfl)
theorem dX1_putMirror_102 : decode cX1_putMirror 102 = .ok (.aload 8, 2) := dk_25 8 (dk_at dksX1_putMirror_4 11 rfl rfl)
theorem dX1_putMirror_104 : decode cX1_putMirror 104 = .ok (.invokevirtual 173, 3) := dk_182 0 173 (dk_at dksX1_putMirror_4 13 rfl rfl)
theorem dX1_putMirror_107 : decode cX1_putMirror 107 = .ok (.ireturn, 1) := dk_172 (dk_at dksX1_putMirror_4 16 rfl rfl)
abbrev cX1_ask : ByteArray := prog_1_method_2_code
def yX1_ask : MethodName := ⟨RX1, "ask", "(Z)V"⟩
def dkwX1_ask_0 : List UInt8 := [26, 154, 0, 11, 187, 0, 1, 89, 183, 0, 3, 191, 177]
abbrev dktX1_ask_0 : List UInt8 := dkwX1_ask_0 ++ []
theorem dksX1_ask_0 : cX1_ask.data.toList.drop 0 = dktX1_ask_0 := by decide +kernel
theorem dX1_ask_0 : decode cX1_ask 0 = .ok (.iload_n 0, 1) := dk_26 (dk_at dksX1_ask_0 0 rfl rfl)
theorem dX1_ask_1 : decode cX1_ask 1 = .ok (.ifCond .ne 11, 3) := dk_154 0 11 (dk_at dksX1_ask_0 1 rfl rfl)
theorem dX1_ask_4 : decode cX1_ask 4 = .ok (.new 1, 3) := dk_187 0 1 (dk_at dksX1_ask_0 4 rfl rfl)
theorem dX1_ask_7 : decode cX1_ask 7 = .ok (.dup, 1) := dk_89 (dk_at dksX1_ask_0 7 rfl rfl)
theorem dX1_ask_8 : decode cX1_ask 8 = .ok (.invokespecial 3, 3) := dk_183 0 3 (dk_at dksX1_ask_0 8 rfl rfl)
theorem dX1_ask_11 : decode cX1_ask 11 = .ok (.athrow, 1) := dk_191 (dk_at dksX1_ask_0 11 rfl rfl)
theorem dX1_ask_12 : decode cX1_ask 12 = .ok (.return_, 1) := dk_177 (dk_at dksX1_ask_0 12 rfl rfl)
abbrev cX1_putDoor : ByteArray := prog_1_method_14_code
def yX1_putDoor : MethodName := ⟨RX1, "putDoor", "(III)I"⟩
def dkwX1_putDoor_3 : List UInt8 := [3, 25, 6, 83, 182, 0, 157, 25, 6, 182, 0, 173, 172]
abbrev dktX1_putDoor_3 : List UInt8 := dkwX1_putDoor_3 ++ []
def dkwX1_putDoor_2 : List UInt8 := [153, 0, 6, 21, 5, 172, 187, 0, 58, 89, 21, 4, 29, 183, 0, 60, 58, 6, 42, 4, 189, 0, 51, 89]
abbrev dktX1_putDoor_2 : List UInt8 := dkwX1_putDoor_2 ++ dktX1_putDoor_3
def dkwX1_putDoor_1 : List UInt8 := [3, 182, 0, 131, 182, 0, 135, 16, 8, 162, 0, 7, 4, 167, 0, 4, 3, 182, 0, 150, 54, 5, 21, 5]
abbrev dktX1_putDoor_1 : List UInt8 := dkwX1_putDoor_1 ++ dktX1_putDoor_2
def dkwX1_putDoor_0 : List UInt8 := [42, 27, 28, 182, 0, 146, 54, 4, 29, 4, 5, 184, 0, 165, 184, 0, 169, 42, 21, 4, 42, 180, 0, 47]
abbrev dktX1_putDoor_0 : List UInt8 := dkwX1_putDoor_0 ++ dktX1_putDoor_1
theorem dksX1_putDoor_0 : cX1_putDoor.data.toList.drop 0 = dktX1_putDoor_0 := by decide +kernel
theorem dksX1_putDoor_1 : cX1_putDoor.data.toList.drop 24 = dktX1_putDoor_1 := dk_seg dksX1_putDoor_0 24 rfl rfl
theorem dksX1_putDoor_2 : cX1_putDoor.data.toList.drop 48 = dktX1_putDoor_2 := dk_seg dksX1_putDoor_1 24 rfl rfl
theorem dksX1_putDoor_3 : cX1_putDoor.data.toList.drop 72 = dktX1_putDoor_3 := dk_seg dksX1_putDoor_2 24 rfl rfl
theorem dX1_putDoor_0 : decode cX1_putDoor 0 = .ok (.aload_n 0, 1) := dk_42 (dk_at dksX1_putDoor_0 0 rfl rfl)
theorem dX1_putDoor_1 : decode cX1_putDoor 1 = .ok (.iload_n 1, 1) := dk_27 (dk_at dksX1_putDoor_0 1 rfl rfl)
theorem dX1_putDoor_2 : decode cX1_putDoor 2 = .ok (.iload_n 2, 1) := dk_28 (dk_at dksX1_putDoor_0 2 rfl rfl)
theorem dX1_putDoor_3 : decode cX1_putDoor 3 = .ok (.invokevirtual 146, 3) := dk_182 0 146 (dk_at dksX1_putDoor_0 3 rfl rfl)
theorem dX1_putDoor_6 : decode cX1_putDoor 6 = .ok (.istore 4, 2) := dk_54 4 (dk_at dksX1_putDoor_0 6 rfl rfl)
theorem dX1_putDoor_8 : decode cX1_putDoor 8 = .ok (.iload_n 3, 1) := dk_29 (dk_at dksX1_putDoor_0 8 rfl rfl)
theorem dX1_putDoor_9 : decode cX1_putDoor 9 = .ok (.iconst 1, 1) := dk_4 (dk_at dksX1_putDoor_0 9 rfl rfl)
theorem dX1_putDoor_10 : decode cX1_putDoor 10 = .ok (.iconst 2, 1) := dk_5 (dk_at dksX1_putDoor_0 10 rfl rfl)
theorem dX1_putDoor_11 : decode cX1_putDoor 11 = .ok (.invokestatic 165, 3) := dk_184 0 165 (dk_at dksX1_putDoor_0 11 rfl rfl)
theorem dX1_putDoor_14 : decode cX1_putDoor 14 = .ok (.invokestatic 169, 3) := dk_184 0 169 (dk_at dksX1_putDoor_0 14 rfl rfl)
theorem dX1_putDoor_17 : decode cX1_putDoor 17 = .ok (.aload_n 0, 1) := dk_42 (dk_at dksX1_putDoor_0 17 rfl rfl)
theorem dX1_putDoor_18 : decode cX1_putDoor 18 = .ok (.iload 4, 2) := dk_21 4 (dk_at dksX1_putDoor_0 18 rfl rfl)
theorem dX1_putDoor_20 : decode cX1_putDoor 20 = .ok (.aload_n 0, 1) := dk_42 (dk_at dksX1_putDoor_0 20 rfl rfl)
theorem dX1_putDoor_21 : decode cX1_putDoor 21 = .ok (.getfield 47, 3) := dk_180 0 47 (dk_at dksX1_putDoor_0 21 rfl rfl)
theorem dX1_putDoor_24 : decode cX1_putDoor 24 = .ok (.iconst 0, 1) := dk_3 (dk_at dksX1_putDoor_1 0 rfl rfl)
theorem dX1_putDoor_25 : decode cX1_putDoor 25 = .ok (.invokevirtual 131, 3) := dk_182 0 131 (dk_at dksX1_putDoor_1 1 rfl rfl)
theorem dX1_putDoor_28 : decode cX1_putDoor 28 = .ok (.invokevirtual 135, 3) := dk_182 0 135 (dk_at dksX1_putDoor_1 4 rfl rfl)
theorem dX1_putDoor_31 : decode cX1_putDoor 31 = .ok (.bipush 8, 2) := dk_16 8 (dk_at dksX1_putDoor_1 7 rfl rfl)
theorem dX1_putDoor_33 : decode cX1_putDoor 33 = .ok (.if_icmp .ge 7, 3) := dk_162 0 7 (dk_at dksX1_putDoor_1 9 rfl rfl)
theorem dX1_putDoor_36 : decode cX1_putDoor 36 = .ok (.iconst 1, 1) := dk_4 (dk_at dksX1_putDoor_1 12 rfl rfl)
theorem dX1_putDoor_37 : decode cX1_putDoor 37 = .ok (.goto 4, 3) := dk_167 0 4 (dk_at dksX1_putDoor_1 13 rfl rfl)
theorem dX1_putDoor_40 : decode cX1_putDoor 40 = .ok (.iconst 0, 1) := dk_3 (dk_at dksX1_putDoor_1 16 rfl rfl)
theorem dX1_putDoor_41 : decode cX1_putDoor 41 = .ok (.invokevirtual 150, 3) := dk_182 0 150 (dk_at dksX1_putDoor_1 17 rfl rfl)
theorem dX1_putDoor_44 : decode cX1_putDoor 44 = .ok (.istore 5, 2) := dk_54 5 (dk_at dksX1_putDoor_1 20 rfl rfl)
theorem dX1_putDoor_46 : decode cX1_putDoor 46 = .ok (.iload 5, 2) := dk_21 5 (dk_at dksX1_putDoor_1 22 rfl rfl)
theorem dX1_putDoor_48 : decode cX1_putDoor 48 = .ok (.ifCond .eq 6, 3) := dk_153 0 6 (dk_at dksX1_putDoor_2 0 rfl rfl)
theorem dX1_putDoor_51 : decode cX1_putDoor 51 = .ok (.iload 5, 2) := dk_21 5 (dk_at dksX1_putDoor_2 3 rfl rfl)
theorem dX1_putDoor_53 : decode cX1_putDoor 53 = .ok (.ireturn, 1) := dk_172 (dk_at dksX1_putDoor_2 5 rfl rfl)
theorem dX1_putDoor_54 : decode cX1_putDoor 54 = .ok (.new 58, 3) := dk_187 0 58 (dk_at dksX1_putDoor_2 6 rfl rfl)
theorem dX1_putDoor_57 : decode cX1_putDoor 57 = .ok (.dup, 1) := dk_89 (dk_at dksX1_putDoor_2 9 rfl rfl)
theorem dX1_putDoor_58 : decode cX1_putDoor 58 = .ok (.iload 4, 2) := dk_21 4 (dk_at dksX1_putDoor_2 10 rfl rfl)
theorem dX1_putDoor_60 : decode cX1_putDoor 60 = .ok (.iload_n 3, 1) := dk_29 (dk_at dksX1_putDoor_2 12 rfl rfl)
theorem dX1_putDoor_61 : decode cX1_putDoor 61 = .ok (.invokespecial 60, 3) := dk_183 0 60 (dk_at dksX1_putDoor_2 13 rfl rfl)
theorem dX1_putDoor_64 : decode cX1_putDoor 64 = .ok (.astore 6, 2) := dk_58 6 (dk_at dksX1_putDoor_2 16 rfl rfl)
theorem dX1_putDoor_66 : decode cX1_putDoor 66 = .ok (.aload_n 0, 1) := dk_42 (dk_at dksX1_putDoor_2 18 rfl rfl)
theorem dX1_putDoor_67 : decode cX1_putDoor 67 = .ok (.iconst 1, 1) := dk_4 (dk_at dksX1_putDoor_2 19 rfl rfl)
theorem dX1_putDoor_68 : decode cX1_putDoor 68 = .ok (.anewarray 51, 3) := dk_189 0 51 (dk_at dksX1_putDoor_2 20 rfl rfl)
theorem dX1_putDoor_71 : decode cX1_putDoor 71 = .ok (.dup, 1) := dk_89 (dk_at dksX1_putDoor_2 23 rfl rfl)
theorem dX1_putDoor_72 : decode cX1_putDoor 72 = .ok (.iconst 0, 1) := dk_3 (dk_at dksX1_putDoor_3 0 rfl rfl)
theorem dX1_putDoor_73 : decode cX1_putDoor 73 = .ok (.aload 6, 2) := dk_25 6 (dk_at dksX1_putDoor_3 1 rfl rfl)
theorem dX1_putDoor_75 : decode cX1_putDoor 75 = .ok (.aastore, 1) := dk_83 (dk_at dksX1_putDoor_3 3 rfl rfl)
theorem dX1_putDoor_76 : decode cX1_putDoor 76 = .ok (.invokevirtual 157, 3) := dk_182 0 157 (dk_at dksX1_putDoor_3 4 rfl rfl)
theorem dX1_putDoor_79 : decode cX1_putDoor 79 = .ok (.aload 6, 2) := dk_25 6 (dk_at dksX1_putDoor_3 7 rfl rfl)
theorem dX1_putDoor_81 : decode cX1_putDoor 81 = .ok (.invokevirtual 173, 3) := dk_182 0 173 (dk_at dksX1_putDoor_3 9 rfl rfl)
theorem dX1_putDoor_84 : decode cX1_putDoor 84 = .ok (.ireturn, 1) := dk_172 (dk_at dksX1_putDoor_3 12 rfl rfl)
abbrev cX1_putGate : ByteArray := prog_1_method_15_code
def yX1_putGate : MethodName := ⟨RX1, "putGate", "(III)I"⟩
def dkwX1_putGate_2 : List UInt8 := [21, 4, 29, 183, 0, 179, 83, 182, 0, 157, 3, 182, 0, 161, 172]
abbrev dktX1_putGate_2 : List UInt8 := dkwX1_putGate_2 ++ []
def dkwX1_putGate_1 : List UInt8 := [54, 5, 21, 5, 153, 0, 8, 21, 5, 167, 0, 28, 42, 4, 189, 0, 51, 89, 3, 187, 0, 177, 89]
abbrev dktX1_putGate_1 : List UInt8 := dkwX1_putGate_1 ++ dktX1_putGate_2
def dkwX1_putGate_0 : List UInt8 := [42, 27, 28, 182, 0, 146, 54, 4, 29, 3, 6, 184, 0, 165, 184, 0, 169, 42, 21, 4, 4, 182, 0, 150]
abbrev dktX1_putGate_0 : List UInt8 := dkwX1_putGate_0 ++ dktX1_putGate_1
theorem dksX1_putGate_0 : cX1_putGate.data.toList.drop 0 = dktX1_putGate_0 := by decide +kernel
theorem dksX1_putGate_1 : cX1_putGate.data.toList.drop 24 = dktX1_putGate_1 := dk_seg dksX1_putGate_0 24 rfl rfl
theorem dksX1_putGate_2 : cX1_putGate.data.toList.drop 47 = dktX1_putGate_2 := dk_seg dksX1_putGate_1 23 rfl rfl
theorem dX1_putGate_0 : decode cX1_putGate 0 = .ok (.aload_n 0, 1) := dk_42 (dk_at dksX1_putGate_0 0 rfl rfl)
theorem dX1_putGate_1 : decode cX1_putGate 1 = .ok (.iload_n 1, 1) := dk_27 (dk_at dksX1_putGate_0 1 rfl rfl)
theorem dX1_putGate_2 : decode cX1_putGate 2 = .ok (.iload_n 2, 1) := dk_28 (dk_at dksX1_putGate_0 2 rfl rfl)
theorem dX1_putGate_3 : decode cX1_putGate 3 = .ok (.invokevirtual 146, 3) := dk_182 0 146 (dk_at dksX1_putGate_0 3 rfl rfl)
theorem dX1_putGate_6 : decode cX1_putGate 6 = .ok (.istore 4, 2) := dk_54 4 (dk_at dksX1_putGate_0 6 rfl rfl)
theorem dX1_putGate_8 : decode cX1_putGate 8 = .ok (.iload_n 3, 1) := dk_29 (dk_at dksX1_putGate_0 8 rfl rfl)
theorem dX1_putGate_9 : decode cX1_putGate 9 = .ok (.iconst 0, 1) := dk_3 (dk_at dksX1_putGate_0 9 rfl rfl)
theorem dX1_putGate_10 : decode cX1_putGate 10 = .ok (.iconst 3, 1) := dk_6 (dk_at dksX1_putGate_0 10 rfl rfl)
theorem dX1_putGate_11 : decode cX1_putGate 11 = .ok (.invokestatic 165, 3) := dk_184 0 165 (dk_at dksX1_putGate_0 11 rfl rfl)
theorem dX1_putGate_14 : decode cX1_putGate 14 = .ok (.invokestatic 169, 3) := dk_184 0 169 (dk_at dksX1_putGate_0 14 rfl rfl)
theorem dX1_putGate_17 : decode cX1_putGate 17 = .ok (.aload_n 0, 1) := dk_42 (dk_at dksX1_putGate_0 17 rfl rfl)
theorem dX1_putGate_18 : decode cX1_putGate 18 = .ok (.iload 4, 2) := dk_21 4 (dk_at dksX1_putGate_0 18 rfl rfl)
theorem dX1_putGate_20 : decode cX1_putGate 20 = .ok (.iconst 1, 1) := dk_4 (dk_at dksX1_putGate_0 20 rfl rfl)
theorem dX1_putGate_21 : decode cX1_putGate 21 = .ok (.invokevirtual 150, 3) := dk_182 0 150 (dk_at dksX1_putGate_0 21 rfl rfl)
theorem dX1_putGate_24 : decode cX1_putGate 24 = .ok (.istore 5, 2) := dk_54 5 (dk_at dksX1_putGate_1 0 rfl rfl)
theorem dX1_putGate_26 : decode cX1_putGate 26 = .ok (.iload 5, 2) := dk_21 5 (dk_at dksX1_putGate_1 2 rfl rfl)
theorem dX1_putGate_28 : decode cX1_putGate 28 = .ok (.ifCond .eq 8, 3) := dk_153 0 8 (dk_at dksX1_putGate_1 4 rfl rfl)
theorem dX1_putGate_31 : decode cX1_putGate 31 = .ok (.iload 5, 2) := dk_21 5 (dk_at dksX1_putGate_1 7 rfl rfl)
theorem dX1_putGate_33 : decode cX1_putGate 33 = .ok (.goto 28, 3) := dk_167 0 28 (dk_at dksX1_putGate_1 9 rfl rfl)
theorem dX1_putGate_36 : decode cX1_putGate 36 = .ok (.aload_n 0, 1) := dk_42 (dk_at dksX1_putGate_1 12 rfl rfl)
theorem dX1_putGate_37 : decode cX1_putGate 37 = .ok (.iconst 1, 1) := dk_4 (dk_at dksX1_putGate_1 13 rfl rfl)
theorem dX1_putGate_38 : decode cX1_putGate 38 = .ok (.anewarray 51, 3) := dk_189 0 51 (dk_at dksX1_putGate_1 14 rfl rfl)
theorem dX1_putGate_41 : decode cX1_putGate 41 = .ok (.dup, 1) := dk_89 (dk_at dksX1_putGate_1 17 rfl rfl)
theorem dX1_putGate_42 : decode cX1_putGate 42 = .ok (.iconst 0, 1) := dk_3 (dk_at dksX1_putGate_1 18 rfl rfl)
theorem dX1_putGate_43 : decode cX1_putGate 43 = .ok (.new 177, 3) := dk_187 0 177 (dk_at dksX1_putGate_1 19 rfl rfl)
theorem dX1_putGate_46 : decode cX1_putGate 46 = .ok (.dup, 1) := dk_89 (dk_at dksX1_putGate_1 22 rfl rfl)
theorem dX1_putGate_47 : decode cX1_putGate 47 = .ok (.iload 4, 2) := dk_21 4 (dk_at dksX1_putGate_2 0 rfl rfl)
theorem dX1_putGate_49 : decode cX1_putGate 49 = .ok (.iload_n 3, 1) := dk_29 (dk_at dksX1_putGate_2 2 rfl rfl)
theorem dX1_putGate_50 : decode cX1_putGate 50 = .ok (.invokespecial 179, 3) := dk_183 0 179 (dk_at dksX1_putGate_2 3 rfl rfl)
theorem dX1_putGate_53 : decode cX1_putGate 53 = .ok (.aastore, 1) := dk_83 (dk_at dksX1_putGate_2 6 rfl rfl)
theorem dX1_putGate_54 : decode cX1_putGate 54 = .ok (.invokevirtual 157, 3) := dk_182 0 157 (dk_at dksX1_putGate_2 7 rfl rfl)
theorem dX1_putGate_57 : decode cX1_putGate 57 = .ok (.iconst 0, 1) := dk_3 (dk_at dksX1_putGate_2 10 rfl rfl)
theorem dX1_putGate_58 : decode cX1_putGate 58 = .ok (.invokevirtual 161, 3) := dk_182 0 161 (dk_at dksX1_putGate_2 11 rfl rfl)
theorem dX1_putGate_61 : decode cX1_putGate 61 = .ok (.ireturn, 1) := dk_172 (dk_at dksX1_putGate_2 14 rfl rfl)
abbrev cX1_putPortals : ByteArray := prog_1_method_16_code
def yX1_putPortals : MethodName := ⟨RX1, "putPortals", "(IIII)I"⟩
def dkwX1_putPortals_5 : List UInt8 := [182, 0, 157, 16, 6, 182, 0, 161, 5, 108, 172]
abbrev dktX1_putPortals_5 : List UInt8 := dkwX1_putPortals_5 ++ []
def dkwX1_putPortals_4 : List UInt8 := [21, 5, 21, 6, 183, 0, 182, 83, 89, 4, 187, 0, 180, 89, 21, 6, 21, 5, 183, 0, 182, 83]
abbrev dktX1_putPortals_4 : List UInt8 := dkwX1_putPortals_4 ++ dktX1_putPortals_5
def dkwX1_putPortals_3 : List UInt8 := [54, 7, 21, 7, 153, 0, 8, 21, 7, 167, 0, 46, 42, 5, 189, 0, 51, 89, 3, 187, 0, 180, 89]
abbrev dktX1_putPortals_3 : List UInt8 := dkwX1_putPortals_3 ++ dktX1_putPortals_4
def dkwX1_putPortals_2 : List UInt8 := [21, 5, 42, 180, 0, 47, 16, 6, 182, 0, 161, 16, 8, 162, 0, 7, 4, 167, 0, 4, 3, 182, 0, 150]
abbrev dktX1_putPortals_2 : List UInt8 := dkwX1_putPortals_2 ++ dktX1_putPortals_3
def dkwX1_putPortals_1 : List UInt8 := [4, 167, 0, 4, 3, 184, 0, 169, 42, 42, 21, 5, 182, 0, 113, 153, 0, 8, 21, 6, 167, 0, 5]
abbrev dktX1_putPortals_1 : List UInt8 := dkwX1_putPortals_1 ++ dktX1_putPortals_2
def dkwX1_putPortals_0 : List UInt8 := [42, 27, 28, 182, 0, 146, 54, 5, 42, 29, 21, 4, 182, 0, 146, 54, 6, 21, 5, 21, 6, 159, 0, 7]
abbrev dktX1_putPortals_0 : List UInt8 := dkwX1_putPortals_0 ++ dktX1_putPortals_1
theorem dksX1_putPortals_0 : cX1_putPortals.data.toList.drop 0 = dktX1_putPortals_0 := by decide +kernel
theorem dksX1_putPortals_1 : cX1_putPortals.data.toList.drop 24 = dktX1_putPortals_1 := dk_seg dksX1_putPortals_0 24 rfl rfl
theorem dksX1_putPortals_2 : cX1_putPortals.data.toList.drop 47 = dktX1_putPortals_2 := dk_seg dksX1_putPortals_1 23 rfl rfl
theorem dksX1_putPortals_3 : cX1_putPortals.data.toList.drop 71 = dktX1_putPortals_3 := dk_seg dksX1_putPortals_2 24 rfl rfl
theorem dksX1_putPortals_4 : cX1_putPortals.data.toList.drop 94 = dktX1_putPortals_4 := dk_seg dksX1_putPortals_3 23 rfl rfl
theorem dksX1_putPortals_5 : cX1_putPortals.data.toList.drop 116 = dktX1_putPortals_5 := dk_seg dksX1_putPortals_4 22 rfl rfl
theorem dX1_putPortals_0 : decode cX1_putPortals 0 = .ok (.aload_n 0, 1) := dk_42 (dk_at dksX1_putPortals_0 0 rfl rfl)
theorem dX1_putPortals_1 : decode cX1_putPortals 1 = .ok (.iload_n 1, 1) := dk_27 (dk_at dksX1_putPortals_0 1 rfl rfl)
theorem dX1_putPortals_2 : decode cX1_putPortals 2 = .ok (.iload_n 2, 1) := dk_28 (dk_at dksX1_putPortals_0 2 rfl rfl)
theorem dX1_putPortals_3 : decode cX1_putPortals 3 = .ok (.invokevirtual 146, 3) := dk_182 0 146 (dk_at dksX1_putPortals_0 3 rfl rfl)
theorem dX1_putPortals_6 : decode cX1_putPortals 6 = .ok (.istore 5, 2) := dk_54 5 (dk_at dksX1_putPortals_0 6 rfl rfl)
theorem dX1_putPortals_8 : decode cX1_putPortals 8 = .ok (.aload_n 0, 1) := dk_42 (dk_at dksX1_putPortals_0 8 rfl rfl)
theorem dX1_putPortals_9 : decode cX1_putPortals 9 = .ok (.iload_n 3, 1) := dk_29 (dk_at dksX1_putPortals_0 9 rfl rfl)
theorem dX1_putPortals_10 : decode cX1_putPortals 10 = .ok (.iload 4, 2) := dk_21 4 (dk_at dksX1_putPortals_0 10 rfl rfl)
theorem dX1_putPortals_12 : decode cX1_putPortals 12 = .ok (.invokevirtual 146, 3) := dk_182 0 146 (dk_at dksX1_putPortals_0 12 rfl rfl)
theorem dX1_putPortals_15 : decode cX1_putPortals 15 = .ok (.istore 6, 2) := dk_54 6 (dk_at dksX1_putPortals_0 15 rfl rfl)
theorem dX1_putPortals_17 : decode cX1_putPortals 17 = .ok (.iload 5, 2) := dk_21 5 (dk_at dksX1_putPortals_0 17 rfl rfl)
theorem dX1_putPortals_19 : decode cX1_putPortals 19 = .ok (.iload 6, 2) := dk_21 6 (dk_at dksX1_putPortals_0 19 rfl rfl)
theorem dX1_putPortals_21 : decode cX1_putPortals 21 = .ok (.if_icmp .eq 7, 3) := dk_159 0 7 (dk_at dksX1_putPortals_0 21 rfl rfl)
theorem dX1_putPortals_24 : decode cX1_putPortals 24 = .ok (.iconst 1, 1) := dk_4 (dk_at dksX1_putPortals_1 0 rfl rfl)
theorem dX1_putPortals_25 : decode cX1_putPortals 25 = .ok (.goto 4, 3) := dk_167 0 4 (dk_at dksX1_putPortals_1 1 rfl rfl)
theorem dX1_putPortals_28 : decode cX1_putPortals 28 = .ok (.iconst 0, 1) := dk_3 (dk_at dksX1_putPortals_1 4 rfl rfl)
theorem dX1_putPortals_29 : decode cX1_putPortals 29 = .ok (.invokestatic 169, 3) := dk_184 0 169 (dk_at dksX1_putPortals_1 5 rfl rfl)
theorem dX1_putPortals_32 : decode cX1_putPortals 32 = .ok (.aload_n 0, 1) := dk_42 (dk_at dksX1_putPortals_1 8 rfl rfl)
theorem dX1_putPortals_33 : decode cX1_putPortals 33 = .ok (.aload_n 0, 1) := dk_42 (dk_at dksX1_putPortals_1 9 rfl rfl)
theorem dX1_putPortals_34 : decode cX1_putPortals 34 = .ok (.iload 5, 2) := dk_21 5 (dk_at dksX1_putPortals_1 10 rfl rfl)
theorem dX1_putPortals_36 : decode cX1_putPortals 36 = .ok (.invokevirtual 113, 3) := dk_182 0 113 (dk_at dksX1_putPortals_1 12 rfl rfl)
theorem dX1_putPortals_39 : decode cX1_putPortals 39 = .ok (.ifCond .eq 8, 3) := dk_153 0 8 (dk_at dksX1_putPortals_1 15 rfl rfl)
theorem dX1_putPortals_42 : decode cX1_putPortals 42 = .ok (.iload 6, 2) := dk_21 6 (dk_at dksX1_putPortals_1 18 rfl rfl)
theorem dX1_putPortals_44 : decode cX1_putPortals 44 = .ok (.goto 5, 3) := dk_167 0 5 (dk_at dksX1_putPortals_1 20 rfl rfl)
theorem dX1_putPortals_47 : decode cX1_putPortals 47 = .ok (.iload 5, 2) := dk_21 5 (dk_at dksX1_putPortals_2 0 rfl rfl)
theorem dX1_putPortals_49 : decode cX1_putPortals 49 = .ok (.aload_n 0, 1) := dk_42 (dk_at dksX1_putPortals_2 2 rfl rfl)
theorem dX1_putPortals_50 : decode cX1_putPortals 50 = .ok (.getfield 47, 3) := dk_180 0 47 (dk_at dksX1_putPortals_2 3 rfl rfl)
theorem dX1_putPortals_53 : decode cX1_putPortals 53 = .ok (.bipush 6, 2) := dk_16 6 (dk_at dksX1_putPortals_2 6 rfl rfl)
theorem dX1_putPortals_55 : decode cX1_putPortals 55 = .ok (.invokevirtual 161, 3) := dk_182 0 161 (dk_at dksX1_putPortals_2 8 rfl rfl)
theorem dX1_putPortals_58 : decode cX1_putPortals 58 = .ok (.bipush 8, 2) := dk_16 8 (dk_at dksX1_putPortals_2 11 rfl rfl)
theorem dX1_putPortals_60 : decode cX1_putPortals 60 = .ok (.if_icmp .ge 7, 3) := dk_162 0 7 (dk_at dksX1_putPortals_2 13 rfl rfl)
theorem dX1_putPortals_63 : decode cX1_putPortals 63 = .ok (.iconst 1, 1) := dk_4 (dk_at dksX1_putPortals_2 16 rfl rfl)
theorem dX1_putPortals_64 : decode cX1_putPortals 64 = .ok (.goto 4, 3) := dk_167 0 4 (dk_at dksX1_putPortals_2 17 rfl rfl)
theorem dX1_putPortals_67 : decode cX1_putPortals 67 = .ok (.iconst 0, 1) := dk_3 (dk_at dksX1_putPortals_2 20 rfl rfl)
theorem dX1_putPortals_68 : decode cX1_putPortals 68 = .ok (.invokevirtual 150, 3) := dk_182 0 150 (dk_at dksX1_putPortals_2 21 rfl rfl)
theorem dX1_putPortals_71 : decode cX1_putPortals 71 = .ok (.istore 7, 2) := dk_54 7 (dk_at dksX1_putPortals_3 0 rfl rfl)
theorem dX1_putPortals_73 : decode cX1_putPortals 73 = .ok (.iload 7, 2) := dk_21 7 (dk_at dksX1_putPortals_3 2 rfl rfl)
theorem dX1_putPortals_75 : decode cX1_putPortals 75 = .ok (.ifCond .eq 8, 3) := dk_153 0 8 (dk_at dksX1_putPortals_3 4 rfl rfl)
theorem dX1_putPortals_78 : decode cX1_putPortals 78 = .ok (.iload 7, 2) := dk_21 7 (dk_at dksX1_putPortals_3 7 rfl rfl)
theorem dX1_putPortals_80 : decode cX1_putPortals 80 = .ok (.goto 46, 3) := dk_167 0 46 (dk_at dksX1_putPortals_3 9 rfl rfl)
theorem dX1_putPortals_83 : decode cX1_putPortals 83 = .ok (.aload_n 0, 1) := dk_42 (dk_at dksX1_putPortals_3 12 rfl rfl)
theorem dX1_putPortals_84 : decode cX1_putPortals 84 = .ok (.iconst 2, 1) := dk_5 (dk_at dksX1_putPortals_3 13 rfl rfl)
theorem dX1_putPortals_85 : decode cX1_putPortals 85 = .ok (.anewarray 51, 3) := dk_189 0 51 (dk_at dksX1_putPortals_3 14 rfl rfl)
theorem dX1_putPortals_88 : decode cX1_putPortals 88 = .ok (.dup, 1) := dk_89 (dk_at dksX1_putPortals_3 17 rfl rfl)
theorem dX1_putPortals_89 : decode cX1_putPortals 89 = .ok (.iconst 0, 1) := dk_3 (dk_at dksX1_putPortals_3 18 rfl rfl)
theorem dX1_putPortals_90 : decode cX1_putPortals 90 = .ok (.new 180, 3) := dk_187 0 180 (dk_at dksX1_putPortals_3 19 rfl rfl)
theorem dX1_putPortals_93 : decode cX1_putPortals 93 = .ok (.dup, 1) := dk_89 (dk_at dksX1_putPortals_3 22 rfl rfl)
theorem dX1_putPortals_94 : decode cX1_putPortals 94 = .ok (.iload 5, 2) := dk_21 5 (dk_at dksX1_putPortals_4 0 rfl rfl)
theorem dX1_putPortals_96 : decode cX1_putPortals 96 = .ok (.iload 6, 2) := dk_21 6 (dk_at dksX1_putPortals_4 2 rfl rfl)
theorem dX1_putPortals_98 : decode cX1_putPortals 98 = .ok (.invokespecial 182, 3) := dk_183 0 182 (dk_at dksX1_putPortals_4 4 rfl rfl)
theorem dX1_putPortals_101 : decode cX1_putPortals 101 = .ok (.aastore, 1) := dk_83 (dk_at dksX1_putPortals_4 7 rfl rfl)
theorem dX1_putPortals_102 : decode cX1_putPortals 102 = .ok (.dup, 1) := dk_89 (dk_at dksX1_putPortals_4 8 rfl rfl)
theorem dX1_putPortals_103 : decode cX1_putPortals 103 = .ok (.iconst 1, 1) := dk_4 (dk_at dksX1_putPortals_4 9 rfl rfl)
theorem dX1_putPortals_104 : decode cX1_putPortals 104 = .ok (.new 180, 3) := dk_187 0 180 (dk_at dksX1_putPortals_4 10 rfl rfl)
theorem dX1_putPortals_107 : decode cX1_putPortals 107 = .ok (.dup, 1) := dk_89 (dk_at dksX1_putPortals_4 13 rfl rfl)
theorem dX1_putPortals_108 : decode cX1_putPortals 108 = .ok (.iload 6, 2) := dk_21 6 (dk_at dksX1_putPortals_4 14 rfl rfl)
theorem dX1_putPortals_110 : decode cX1_putPortals 110 = .ok (.iload 5, 2) := dk_21 5 (dk_at dksX1_putPortals_4 16 rfl rfl)
theorem dX1_putPortals_112 : decode cX1_putPortals 112 = .ok (.invokespecial 182, 3) := dk_183 0 182 (dk_at dksX1_putPortals_4 18 rfl rfl)
theorem dX1_putPortals_115 : decode cX1_putPortals 115 = .ok (.aastore, 1) := dk_83 (dk_at dksX1_putPortals_4 21 rfl rfl)
theorem dX1_putPortals_116 : decode cX1_putPortals 116 = .ok (.invokevirtual 157, 3) := dk_182 0 157 (dk_at dksX1_putPortals_5 0 rfl rfl)
theorem dX1_putPortals_119 : decode cX1_putPortals 119 = .ok (.bipush 6, 2) := dk_16 6 (dk_at dksX1_putPortals_5 3 rfl rfl)
theorem dX1_putPortals_121 : decode cX1_putPortals 121 = .ok (.invokevirtual 161, 3) := dk_182 0 161 (dk_at dksX1_putPortals_5 5 rfl rfl)
theorem dX1_putPortals_124 : decode cX1_putPortals 124 = .ok (.iconst 2, 1) := dk_5 (dk_at dksX1_putPortals_5 8 rfl rfl)
theorem dX1_putPortals_125 : decode cX1_putPortals 125 = .ok (.idiv, 1) := dk_108 (dk_at dksX1_putPortals_5 9 rfl rfl)
theorem dX1_putPortals_126 : decode cX1_putPortals 126 = .ok (.ireturn, 1) := dk_172 (dk_at dksX1_putPortals_5 10 rfl rfl)
abbrev cX1_clear : ByteArray := prog_1_method_17_code
def yX1_clear : MethodName := ⟨RX1, "clear", "(II)I"⟩
def dkwX1_clear_4 : List UInt8 := [187, 0, 186, 89, 21, 5, 183, 0, 188, 83, 182, 0, 157, 87, 21, 4, 172]
abbrev dktX1_clear_4 : List UInt8 := dkwX1_clear_4 ++ []
def dkwX1_clear_3 : List UInt8 := [167, 0, 4, 29, 54, 5, 42, 5, 189, 0, 51, 89, 3, 187, 0, 186, 89, 29, 183, 0, 188, 83, 89, 4]
abbrev dktX1_clear_3 : List UInt8 := dkwX1_clear_3 ++ dktX1_clear_4
def dkwX1_clear_2 : List UInt8 := [16, 251, 172, 21, 4, 16, 6, 160, 0, 18, 42, 180, 0, 47, 180, 0, 74, 29, 50, 182, 0, 183]
abbrev dktX1_clear_2 : List UInt8 := dkwX1_clear_2 ++ dktX1_clear_3
def dkwX1_clear_1 : List UInt8 := [180, 0, 47, 180, 0, 110, 158, 0, 6, 16, 254, 172, 21, 4, 153, 0, 10, 21, 4, 16, 7, 160, 0, 6]
abbrev dktX1_clear_1 : List UInt8 := dkwX1_clear_1 ++ dktX1_clear_2
def dkwX1_clear_0 : List UInt8 := [42, 27, 28, 182, 0, 146, 62, 42, 180, 0, 47, 180, 0, 74, 29, 50, 182, 0, 107, 54, 4, 42]
abbrev dktX1_clear_0 : List UInt8 := dkwX1_clear_0 ++ dktX1_clear_1
theorem dksX1_clear_0 : cX1_clear.data.toList.drop 0 = dktX1_clear_0 := by decide +kernel
theorem dksX1_clear_1 : cX1_clear.data.toList.drop 22 = dktX1_clear_1 := dk_seg dksX1_clear_0 22 rfl rfl
theorem dksX1_clear_2 : cX1_clear.data.toList.drop 46 = dktX1_clear_2 := dk_seg dksX1_clear_1 24 rfl rfl
theorem dksX1_clear_3 : cX1_clear.data.toList.drop 68 = dktX1_clear_3 := dk_seg dksX1_clear_2 22 rfl rfl
theorem dksX1_clear_4 : cX1_clear.data.toList.drop 92 = dktX1_clear_4 := dk_seg dksX1_clear_3 24 rfl rfl
theorem dX1_clear_0 : decode cX1_clear 0 = .ok (.aload_n 0, 1) := dk_42 (dk_at dksX1_clear_0 0 rfl rfl)
theorem dX1_clear_1 : decode cX1_clear 1 = .ok (.iload_n 1, 1) := dk_27 (dk_at dksX1_clear_0 1 rfl rfl)
theorem dX1_clear_2 : decode cX1_clear 2 = .ok (.iload_n 2, 1) := dk_28 (dk_at dksX1_clear_0 2 rfl rfl)
theorem dX1_clear_3 : decode cX1_clear 3 = .ok (.invokevirtual 146, 3) := dk_182 0 146 (dk_at dksX1_clear_0 3 rfl rfl)
theorem dX1_clear_6 : decode cX1_clear 6 = .ok (.istore_n 3, 1) := dk_62 (dk_at dksX1_clear_0 6 rfl rfl)
theorem dX1_clear_7 : decode cX1_clear 7 = .ok (.aload_n 0, 1) := dk_42 (dk_at dksX1_clear_0 7 rfl rfl)
theorem dX1_clear_8 : decode cX1_clear 8 = .ok (.getfield 47, 3) := dk_180 0 47 (dk_at dksX1_clear_0 8 rfl rfl)
theorem dX1_clear_11 : decode cX1_clear 11 = .ok (.getfield 74, 3) := dk_180 0 74 (dk_at dksX1_clear_0 11 rfl rfl)
theorem dX1_clear_14 : decode cX1_clear 14 = .ok (.iload_n 3, 1) := dk_29 (dk_at dksX1_clear_0 14 rfl rfl)
theorem dX1_clear_15 : decode cX1_clear 15 = .ok (.aaload, 1) := dk_50 (dk_at dksX1_clear_0 15 rfl rfl)
theorem dX1_clear_16 : decode cX1_clear 16 = .ok (.invokevirtual 107, 3) := dk_182 0 107 (dk_at dksX1_clear_0 16 rfl rfl)
theorem dX1_clear_19 : decode cX1_clear 19 = .ok (.istore 4, 2) := dk_54 4 (dk_at dksX1_clear_0 19 rfl rfl)
theorem dX1_clear_21 : decode cX1_clear 21 = .ok (.aload_n 0, 1) := dk_42 (dk_at dksX1_clear_0 21 rfl rfl)
theorem dX1_clear_22 : decode cX1_clear 22 = .ok (.getfield 47, 3) := dk_180 0 47 (dk_at dksX1_clear_1 0 rfl rfl)
theorem dX1_clear_25 : decode cX1_clear 25 = .ok (.getfield 110, 3) := dk_180 0 110 (dk_at dksX1_clear_1 3 rfl rfl)
theorem dX1_clear_28 : decode cX1_clear 28 = .ok (.ifCond .le 6, 3) := dk_158 0 6 (dk_at dksX1_clear_1 6 rfl rfl)
theorem dX1_clear_31 : decode cX1_clear 31 = .ok (.bipush (-2), 2) := dk_16 254 (dk_at dksX1_clear_1 9 rfl rfl)
theorem dX1_clear_33 : decode cX1_clear 33 = .ok (.ireturn, 1) := dk_172 (dk_at dksX1_clear_1 11 rfl rfl)
theorem dX1_clear_34 : decode cX1_clear 34 = .ok (.iload 4, 2) := dk_21 4 (dk_at dksX1_clear_1 12 rfl rfl)
theorem dX1_clear_36 : decode cX1_clear 36 = .ok (.ifCond .eq 10, 3) := dk_153 0 10 (dk_at dksX1_clear_1 14 rfl rfl)
theorem dX1_clear_39 : decode cX1_clear 39 = .ok (.iload 4, 2) := dk_21 4 (dk_at dksX1_clear_1 17 rfl rfl)
theorem dX1_clear_41 : decode cX1_clear 41 = .ok (.bipush 7, 2) := dk_16 7 (dk_at dksX1_clear_1 19 rfl rfl)
theorem dX1_clear_43 : decode cX1_clear 43 = .ok (.if_icmp .ne 6, 3) := dk_160 0 6 (dk_at dksX1_clear_1 21 rfl rfl)
theorem dX1_clear_46 : decode cX1_clear 46 = .ok (.bipush (-5), 2) := dk_16 251 (dk_at dksX1_clear_2 0 rfl rfl)
theorem dX1_clear_48 : decode cX1_clear 48 = .ok (.ireturn, 1) := dk_172 (dk_at dksX1_clear_2 2 rfl rfl)
theorem dX1_clear_49 : decode cX1_clear 49 = .ok (.iload 4, 2) := dk_21 4 (dk_at dksX1_clear_2 3 rfl rfl)
theorem dX1_clear_51 : decode cX1_clear 51 = .ok (.bipush 6, 2) := dk_16 6 (dk_at dksX1_clear_2 5 rfl rfl)
theorem dX1_clear_53 : decode cX1_clear 53 = .ok (.if_icmp .ne 18, 3) := dk_160 0 18 (dk_at dksX1_clear_2 7 rfl rfl)
theorem dX1_clear_56 : decode cX1_clear 56 = .ok (.aload_n 0, 1) := dk_42 (dk_at dksX1_clear_2 10 rfl rfl)
theorem dX1_clear_57 : decode cX1_clear 57 = .ok (.getfield 47, 3) := dk_180 0 47 (dk_at dksX1_clear_2 11 rfl rfl)
theorem dX1_clear_60 : decode cX1_clear 60 = .ok (.getfield 74, 3) := dk_180 0 74 (dk_at dksX1_clear_2 14 rfl rfl)
theorem dX1_clear_63 : decode cX1_clear 63 = .ok (.iload_n 3, 1) := dk_29 (dk_at dksX1_clear_2 17 rfl rfl)
theorem dX1_clear_64 : decode cX1_clear 64 = .ok (.aaload, 1) := dk_50 (dk_at dksX1_clear_2 18 rfl rfl)
theorem dX1_clear_65 : decode cX1_clear 65 = .ok (.invokevirtual 183, 3) := dk_182 0 183 (dk_at dksX1_clear_2 19 rfl rfl)
theorem dX1_clear_68 : decode cX1_clear 68 = .ok (.goto 4, 3) := dk_167 0 4 (dk_at dksX1_clear_3 0 rfl rfl)
theorem dX1_clear_71 : decode cX1_clear 71 = .ok (.iload_n 3, 1) := dk_29 (dk_at dksX1_clear_3 3 rfl rfl)
theorem dX1_clear_72 : decode cX1_clear 72 = .ok (.istore 5, 2) := dk_54 5 (dk_at dksX1_clear_3 4 rfl rfl)
theorem dX1_clear_74 : decode cX1_clear 74 = .ok (.aload_n 0, 1) := dk_42 (dk_at dksX1_clear_3 6 rfl rfl)
theorem dX1_clear_75 : decode cX1_clear 75 = .ok (.iconst 2, 1) := dk_5 (dk_at dksX1_clear_3 7 rfl rfl)
theorem dX1_clear_76 : decode cX1_clear 76 = .ok (.anewarray 51, 3) := dk_189 0 51 (dk_at dksX1_clear_3 8 rfl rfl)
theorem dX1_clear_79 : decode cX1_clear 79 = .ok (.dup, 1) := dk_89 (dk_at dksX1_clear_3 11 rfl rfl)
theorem dX1_clear_80 : decode cX1_clear 80 = .ok (.iconst 0, 1) := dk_3 (dk_at dksX1_clear_3 12 rfl rfl)
theorem dX1_clear_81 : decode cX1_clear 81 = .ok (.new 186, 3) := dk_187 0 186 (dk_at dksX1_clear_3 13 rfl rfl)
theorem dX1_clear_84 : decode cX1_clear 84 = .ok (.dup, 1) := dk_89 (dk_at dksX1_clear_3 16 rfl rfl)
theorem dX1_clear_85 : decode cX1_clear 85 = .ok (.iload_n 3, 1) := dk_29 (dk_at dksX1_clear_3 17 rfl rfl)
theorem dX1_clear_86 : decode cX1_clear 86 = .ok (.invokespecial 188, 3) := dk_183 0 188 (dk_at dksX1_clear_3 18 rfl rfl)
theorem dX1_clear_89 : decode cX1_clear 89 = .ok (.aastore, 1) := dk_83 (dk_at dksX1_clear_3 21 rfl rfl)
theorem dX1_clear_90 : decode cX1_clear 90 = .ok (.dup, 1) := dk_89 (dk_at dksX1_clear_3 22 rfl rfl)
theorem dX1_clear_91 : decode cX1_clear 91 = .ok (.iconst 1, 1) := dk_4 (dk_at dksX1_clear_3 23 rfl rfl)
theorem dX1_clear_92 : decode cX1_clear 92 = .ok (.new 186, 3) := dk_187 0 186 (dk_at dksX1_clear_4 0 rfl rfl)
theorem dX1_clear_95 : decode cX1_clear 95 = .ok (.dup, 1) := dk_89 (dk_at dksX1_clear_4 3 rfl rfl)
theorem dX1_clear_96 : decode cX1_clear 96 = .ok (.iload 5, 2) := dk_21 5 (dk_at dksX1_clear_4 4 rfl rfl)
theorem dX1_clear_98 : decode cX1_clear 98 = .ok (.invokespecial 188, 3) := dk_183 0 188 (dk_at dksX1_clear_4 6 rfl rfl)
theorem dX1_clear_101 : decode cX1_clear 101 = .ok (.aastore, 1) := dk_83 (dk_at dksX1_clear_4 9 rfl rfl)
theorem dX1_clear_102 : decode cX1_clear 102 = .ok (.invokevirtual 157, 3) := dk_182 0 157 (dk_at dksX1_clear_4 10 rfl rfl)
theorem dX1_clear_105 : decode cX1_clear 105 = .ok (.pop, 1) := dk_87 (dk_at dksX1_clear_4 13 rfl rfl)
theorem dX1_clear_106 : decode cX1_clear 106 = .ok (.iload 4, 2) := dk_21 4 (dk_at dksX1_clear_4 14 rfl rfl)
theorem dX1_clear_108 : decode cX1_clear 108 = .ok (.ireturn, 1) := dk_172 (dk_at dksX1_clear_4 16 rfl rfl)
abbrev cX1_setLamp : ByteArray := prog_1_method_18_code
def yX1_setLamp : MethodName := ⟨RX1, "setLamp", "(III)I"⟩
def dkwX1_setLamp_5 : List UInt8 := [25, 6, 21, 4, 181, 0, 189, 25, 6, 182, 0, 71, 21, 5, 172]
abbrev dktX1_setLamp_5 : List UInt8 := dkwX1_setLamp_5 ++ []
def dkwX1_setLamp_4 : List UInt8 := [180, 0, 189, 183, 0, 188, 83, 89, 4, 187, 0, 154, 89, 21, 4, 29, 183, 0, 195, 83, 182, 0, 63]
abbrev dktX1_setLamp_4 : List UInt8 := dkwX1_setLamp_4 ++ dktX1_setLamp_5
def dkwX1_setLamp_3 : List UInt8 := [182, 0, 192, 54, 5, 42, 182, 0, 117, 58, 6, 42, 5, 189, 0, 51, 89, 3, 187, 0, 186, 89, 25, 6]
abbrev dktX1_setLamp_3 : List UInt8 := dkwX1_setLamp_3 ++ dktX1_setLamp_4
def dkwX1_setLamp_2 : List UInt8 := [42, 180, 0, 47, 180, 0, 110, 158, 0, 8, 16, 254, 167, 0, 5, 16, 253, 172, 42, 180, 0, 47]
abbrev dktX1_setLamp_2 : List UInt8 := dkwX1_setLamp_2 ++ dktX1_setLamp_3
def dkwX1_setLamp_1 : List UInt8 := [157, 0, 24, 42, 21, 4, 182, 0, 113, 154, 0, 33, 21, 4, 42, 180, 0, 47, 180, 0, 189, 159, 0, 21]
abbrev dktX1_setLamp_1 : List UInt8 := dkwX1_setLamp_1 ++ dktX1_setLamp_2
def dkwX1_setLamp_0 : List UInt8 := [42, 27, 28, 182, 0, 146, 54, 4, 29, 3, 6, 184, 0, 165, 184, 0, 169, 42, 180, 0, 47, 180, 0, 110]
abbrev dktX1_setLamp_0 : List UInt8 := dkwX1_setLamp_0 ++ dktX1_setLamp_1
theorem dksX1_setLamp_0 : cX1_setLamp.data.toList.drop 0 = dktX1_setLamp_0 := by decide +kernel
theorem dksX1_setLamp_1 : cX1_setLamp.data.toList.drop 24 = dktX1_setLamp_1 := dk_seg dksX1_setLamp_0 24 rfl rfl
theorem dksX1_setLamp_2 : cX1_setLamp.data.toList.drop 48 = dktX1_setLamp_2 := dk_seg dksX1_setLamp_1 24 rfl rfl
theorem dksX1_setLamp_3 : cX1_setLamp.data.toList.drop 70 = dktX1_setLamp_3 := dk_seg dksX1_setLamp_2 22 rfl rfl
theorem dksX1_setLamp_4 : cX1_setLamp.data.toList.drop 94 = dktX1_setLamp_4 := dk_seg dksX1_setLamp_3 24 rfl rfl
theorem dksX1_setLamp_5 : cX1_setLamp.data.toList.drop 117 = dktX1_setLamp_5 := dk_seg dksX1_setLamp_4 23 rfl rfl
theorem dX1_setLamp_0 : decode cX1_setLamp 0 = .ok (.aload_n 0, 1) := dk_42 (dk_at dksX1_setLamp_0 0 rfl rfl)
theorem dX1_setLamp_1 : decode cX1_setLamp 1 = .ok (.iload_n 1, 1) := dk_27 (dk_at dksX1_setLamp_0 1 rfl rfl)
theorem dX1_setLamp_2 : decode cX1_setLamp 2 = .ok (.iload_n 2, 1) := dk_28 (dk_at dksX1_setLamp_0 2 rfl rfl)
theorem dX1_setLamp_3 : decode cX1_setLamp 3 = .ok (.invokevirtual 146, 3) := dk_182 0 146 (dk_at dksX1_setLamp_0 3 rfl rfl)
theorem dX1_setLamp_6 : decode cX1_setLamp 6 = .ok (.istore 4, 2) := dk_54 4 (dk_at dksX1_setLamp_0 6 rfl rfl)
theorem dX1_setLamp_8 : decode cX1_setLamp 8 = .ok (.iload_n 3, 1) := dk_29 (dk_at dksX1_setLamp_0 8 rfl rfl)
theorem dX1_setLamp_9 : decode cX1_setLamp 9 = .ok (.iconst 0, 1) := dk_3 (dk_at dksX1_setLamp_0 9 rfl rfl)
theorem dX1_setLamp_10 : decode cX1_setLamp 10 = .ok (.iconst 3, 1) := dk_6 (dk_at dksX1_setLamp_0 10 rfl rfl)
theorem dX1_setLamp_11 : decode cX1_setLamp 11 = .ok (.invokestatic 165, 3) := dk_184 0 165 (dk_at dksX1_setLamp_0 11 rfl rfl)
theorem dX1_setLamp_14 : decode cX1_setLamp 14 = .ok (.invokestatic 169, 3) := dk_184 0 169 (dk_at dksX1_setLamp_0 14 rfl rfl)
theorem dX1_setLamp_17 : decode cX1_setLamp 17 = .ok (.aload_n 0, 1) := dk_42 (dk_at dksX1_setLamp_0 17 rfl rfl)
theorem dX1_setLamp_18 : decode cX1_setLamp 18 = .ok (.getfield 47, 3) := dk_180 0 47 (dk_at dksX1_setLamp_0 18 rfl rfl)
theorem dX1_setLamp_21 : decode cX1_setLamp 21 = .ok (.getfield 110, 3) := dk_180 0 110 (dk_at dksX1_setLamp_0 21 rfl rfl)
theorem dX1_setLamp_24 : decode cX1_setLamp 24 = .ok (.ifCond .gt 24, 3) := dk_157 0 24 (dk_at dksX1_setLamp_1 0 rfl rfl)
theorem dX1_setLamp_27 : decode cX1_setLamp 27 = .ok (.aload_n 0, 1) := dk_42 (dk_at dksX1_setLamp_1 3 rfl rfl)
theorem dX1_setLamp_28 : decode cX1_setLamp 28 = .ok (.iload 4, 2) := dk_21 4 (dk_at dksX1_setLamp_1 4 rfl rfl)
theorem dX1_setLamp_30 : decode cX1_setLamp 30 = .ok (.invokevirtual 113, 3) := dk_182 0 113 (dk_at dksX1_setLamp_1 6 rfl rfl)
theorem dX1_setLamp_33 : decode cX1_setLamp 33 = .ok (.ifCond .ne 33, 3) := dk_154 0 33 (dk_at dksX1_setLamp_1 9 rfl rfl)
theorem dX1_setLamp_36 : decode cX1_setLamp 36 = .ok (.iload 4, 2) := dk_21 4 (dk_at dksX1_setLamp_1 12 rfl rfl)
theorem dX1_setLamp_38 : decode cX1_setLamp 38 = .ok (.aload_n 0, 1) := dk_42 (dk_at dksX1_setLamp_1 14 rfl rfl)
theorem dX1_setLamp_39 : decode cX1_setLamp 39 = .ok (.getfield 47, 3) := dk_180 0 47 (dk_at dksX1_setLamp_1 15 rfl rfl)
theorem dX1_setLamp_42 : decode cX1_setLamp 42 = .ok (.getfield 189, 3) := dk_180 0 189 (dk_at dksX1_setLamp_1 18 rfl rfl)
theorem dX1_setLamp_45 : decode cX1_setLamp 45 = .ok (.if_icmp .eq 21, 3) := dk_159 0 21 (dk_at dksX1_setLamp_1 21 rfl rfl)
theorem dX1_setLamp_48 : decode cX1_setLamp 48 = .ok (.aload_n 0, 1) := dk_42 (dk_at dksX1_setLamp_2 0 rfl rfl)
theorem dX1_setLamp_49 : decode cX1_setLamp 49 = .ok (.getfield 47, 3) := dk_180 0 47 (dk_at dksX1_setLamp_2 1 rfl rfl)
theorem dX1_setLamp_52 : decode cX1_setLamp 52 = .ok (.getfield 110, 3) := dk_180 0 110 (dk_at dksX1_setLamp_2 4 rfl rfl)
theorem dX1_setLamp_55 : decode cX1_setLamp 55 = .ok (.ifCond .le 8, 3) := dk_158 0 8 (dk_at dksX1_setLamp_2 7 rfl rfl)
theorem dX1_setLamp_58 : decode cX1_setLamp 58 = .ok (.bipush (-2), 2) := dk_16 254 (dk_at dksX1_setLamp_2 10 rfl rfl)
theorem dX1_setLamp_60 : decode cX1_setLamp 60 = .ok (.goto 5, 3) := dk_167 0 5 (dk_at dksX1_setLamp_2 12 rfl rfl)
theorem dX1_setLamp_63 : decode cX1_setLamp 63 = .ok (.bipush (-3), 2) := dk_16 253 (dk_at dksX1_setLamp_2 15 rfl rfl)
theorem dX1_setLamp_65 : decode cX1_setLamp 65 = .ok (.ireturn, 1) := dk_172 (dk_at dksX1_setLamp_2 17 rfl rfl)
theorem dX1_setLamp_66 : decode cX1_setLamp 66 = .ok (.aload_n 0, 1) := dk_42 (dk_at dksX1_setLamp_2 18 rfl rfl)
theorem dX1_setLamp_67 : decode cX1_setLamp 67 = .ok (.getfield 47, 3) := dk_180 0 47 (dk_at dksX1_setLamp_2 19 rfl rfl)
theorem dX1_setLamp_70 : decode cX1_setLamp 70 = .ok (.invokevirtual 192, 3) := dk_182 0 192 (dk_at dksX1_setLamp_3 0 rfl rfl)
theorem dX1_setLamp_73 : decode cX1_setLamp 73 = .ok (.istore 5, 2) := dk_54 5 (dk_at dksX1_setLamp_3 3 rfl rfl)
theorem dX1_setLamp_75 : decode cX1_setLamp 75 = .ok (.aload_n 0, 1) := dk_42 (dk_at dksX1_setLamp_3 5 rfl rfl)
theorem dX1_setLamp_76 : decode cX1_setLamp 76 = .ok (.invokevirtual 117, 3) := dk_182 0 117 (dk_at dksX1_setLamp_3 6 rfl rfl)
theorem dX1_setLamp_79 : decode cX1_setLamp 79 = .ok (.astore 6, 2) := dk_58 6 (dk_at dksX1_setLamp_3 9 rfl rfl)
theorem dX1_setLamp_81 : decode cX1_setLamp 81 = .ok (.aload_n 0, 1) := dk_42 (dk_at dksX1_setLamp_3 11 rfl rfl)
theorem dX1_setLamp_82 : decode cX1_setLamp 82 = .ok (.iconst 2, 1) := dk_5 (dk_at dksX1_setLamp_3 12 rfl rfl)
theorem dX1_setLamp_83 : decode cX1_setLamp 83 = .ok (.anewarray 51, 3) := dk_189 0 51 (dk_at dksX1_setLamp_3 13 rfl rfl)
theorem dX1_setLamp_86 : decode cX1_setLamp 86 = .ok (.dup, 1) := dk_89 (dk_at dksX1_setLamp_3 16 rfl rfl)
theorem dX1_setLamp_87 : decode cX1_setLamp 87 = .ok (.iconst 0, 1) := dk_3 (dk_at dksX1_setLamp_3 17 rfl rfl)
theorem dX1_setLamp_88 : decode cX1_setLamp 88 = .ok (.new 186, 3) := dk_187 0 186 (dk_at dksX1_setLamp_3 18 rfl rfl)
theorem dX1_setLamp_91 : decode cX1_setLamp 91 = .ok (.dup, 1) := dk_89 (dk_at dksX1_setLamp_3 21 rfl rfl)
theorem dX1_setLamp_92 : decode cX1_setLamp 92 = .ok (.aload 6, 2) := dk_25 6 (dk_at dksX1_setLamp_3 22 rfl rfl)
theorem dX1_setLamp_94 : decode cX1_setLamp 94 = .ok (.getfield 189, 3) := dk_180 0 189 (dk_at dksX1_setLamp_4 0 rfl rfl)
theorem dX1_setLamp_97 : decode cX1_setLamp 97 = .ok (.invokespecial 188, 3) := dk_183 0 188 (dk_at dksX1_setLamp_4 3 rfl rfl)
theorem dX1_setLamp_100 : decode cX1_setLamp 100 = .ok (.aastore, 1) := dk_83 (dk_at dksX1_setLamp_4 6 rfl rfl)
theorem dX1_setLamp_101 : decode cX1_setLamp 101 = .ok (.dup, 1) := dk_89 (dk_at dksX1_setLamp_4 7 rfl rfl)
theorem dX1_setLamp_102 : decode cX1_setLamp 102 = .ok (.iconst 1, 1) := dk_4 (dk_at dksX1_setLamp_4 8 rfl rfl)
theorem dX1_setLamp_103 : decode cX1_setLamp 103 = .ok (.new 154, 3) := dk_187 0 154 (dk_at dksX1_setLamp_4 9 rfl rfl)
theorem dX1_setLamp_106 : decode cX1_setLamp 106 = .ok (.dup, 1) := dk_89 (dk_at dksX1_setLamp_4 12 rfl rfl)
theorem dX1_setLamp_107 : decode cX1_setLamp 107 = .ok (.iload 4, 2) := dk_21 4 (dk_at dksX1_setLamp_4 13 rfl rfl)
theorem dX1_setLamp_109 : decode cX1_setLamp 109 = .ok (.iload_n 3, 1) := dk_29 (dk_at dksX1_setLamp_4 15 rfl rfl)
theorem dX1_setLamp_110 : decode cX1_setLamp 110 = .ok (.invokespecial 195, 3) := dk_183 0 195 (dk_at dksX1_setLamp_4 16 rfl rfl)
theorem dX1_setLamp_113 : decode cX1_setLamp 113 = .ok (.aastore, 1) := dk_83 (dk_at dksX1_setLamp_4 19 rfl rfl)
theorem dX1_setLamp_114 : decode cX1_setLamp 114 = .ok (.invokevirtual 63, 3) := dk_182 0 63 (dk_at dksX1_setLamp_4 20 rfl rfl)
theorem dX1_setLamp_117 : decode cX1_setLamp 117 = .ok (.aload 6, 2) := dk_25 6 (dk_at dksX1_setLamp_5 0 rfl rfl)
theorem dX1_setLamp_119 : decode cX1_setLamp 119 = .ok (.iload 4, 2) := dk_21 4 (dk_at dksX1_setLamp_5 2 rfl rfl)
theorem dX1_setLamp_121 : decode cX1_setLamp 121 = .ok (.putfield 189, 3) := dk_181 0 189 (dk_at dksX1_setLamp_5 4 rfl rfl)
theorem dX1_setLamp_124 : decode cX1_setLamp 124 = .ok (.aload 6, 2) := dk_25 6 (dk_at dksX1_setLamp_5 7 rfl rfl)
theorem dX1_setLamp_126 : decode cX1_setLamp 126 = .ok (.invokevirtual 71, 3) := dk_182 0 71 (dk_at dksX1_setLamp_5 9 rfl rfl)
theorem dX1_setLamp_129 : decode cX1_setLamp 129 = .ok (.iload 5, 2) := dk_21 5 (dk_at dksX1_setLamp_5 12 rfl rfl)
theorem dX1_setLamp_131 : decode cX1_setLamp 131 = .ok (.ireturn, 1) := dk_172 (dk_at dksX1_setLamp_5 14 rfl rfl)
abbrev cX1_set : ByteArray := prog_1_method_19_code
def yX1_set : MethodName := ⟨RX1, "set", "(ZI)I"⟩
def dkwX1_set_3 : List UInt8 := [181, 0, 67, 167, 0, 9, 25, 4, 28, 181, 0, 196, 29, 172]
abbrev dktX1_set_3 : List UInt8 := dkwX1_set_3 ++ []
def dkwX1_set_2 : List UInt8 := [167, 0, 10, 42, 180, 0, 47, 180, 0, 196, 62, 42, 182, 0, 117, 58, 4, 27, 153, 0, 12, 25, 4, 28]
abbrev dktX1_set_2 : List UInt8 := dkwX1_set_2 ++ dktX1_set_3
def dkwX1_set_1 : List UInt8 := [180, 0, 47, 180, 0, 110, 158, 0, 6, 16, 254, 172, 27, 153, 0, 13, 42, 180, 0, 47, 180, 0, 67]
abbrev dktX1_set_1 : List UInt8 := dkwX1_set_1 ++ dktX1_set_2
def dkwX1_set_0 : List UInt8 := [27, 153, 0, 13, 28, 4, 16, 99, 184, 0, 165, 167, 0, 9, 28, 3, 6, 184, 0, 165, 184, 0, 169, 42]
abbrev dktX1_set_0 : List UInt8 := dkwX1_set_0 ++ dktX1_set_1
theorem dksX1_set_0 : cX1_set.data.toList.drop 0 = dktX1_set_0 := by decide +kernel
theorem dksX1_set_1 : cX1_set.data.toList.drop 24 = dktX1_set_1 := dk_seg dksX1_set_0 24 rfl rfl
theorem dksX1_set_2 : cX1_set.data.toList.drop 47 = dktX1_set_2 := dk_seg dksX1_set_1 23 rfl rfl
theorem dksX1_set_3 : cX1_set.data.toList.drop 71 = dktX1_set_3 := dk_seg dksX1_set_2 24 rfl rfl
theorem dX1_set_0 : decode cX1_set 0 = .ok (.iload_n 1, 1) := dk_27 (dk_at dksX1_set_0 0 rfl rfl)
theorem dX1_set_1 : decode cX1_set 1 = .ok (.ifCond .eq 13, 3) := dk_153 0 13 (dk_at dksX1_set_0 1 rfl rfl)
theorem dX1_set_4 : decode cX1_set 4 = .ok (.iload_n 2, 1) := dk_28 (dk_at dksX1_set_0 4 rfl rfl)
theorem dX1_set_5 : decode cX1_set 5 = .ok (.iconst 1, 1) := dk_4 (dk_at dksX1_set_0 5 rfl rfl)
theorem dX1_set_6 : decode cX1_set 6 = .ok (.bipush 99, 2) := dk_16 99 (dk_at dksX1_set_0 6 rfl rfl)
theorem dX1_set_8 : decode cX1_set 8 = .ok (.invokestatic 165, 3) := dk_184 0 165 (dk_at dksX1_set_0 8 rfl rfl)
theorem dX1_set_11 : decode cX1_set 11 = .ok (.goto 9, 3) := dk_167 0 9 (dk_at dksX1_set_0 11 rfl rfl)
theorem dX1_set_14 : decode cX1_set 14 = .ok (.iload_n 2, 1) := dk_28 (dk_at dksX1_set_0 14 rfl rfl)
theorem dX1_set_15 : decode cX1_set 15 = .ok (.iconst 0, 1) := dk_3 (dk_at dksX1_set_0 15 rfl rfl)
theorem dX1_set_16 : decode cX1_set 16 = .ok (.iconst 3, 1) := dk_6 (dk_at dksX1_set_0 16 rfl rfl)
theorem dX1_set_17 : decode cX1_set 17 = .ok (.invokestatic 165, 3) := dk_184 0 165 (dk_at dksX1_set_0 17 rfl rfl)
theorem dX1_set_20 : decode cX1_set 20 = .ok (.invokestatic 169, 3) := dk_184 0 169 (dk_at dksX1_set_0 20 rfl rfl)
theorem dX1_set_23 : decode cX1_set 23 = .ok (.aload_n 0, 1) := dk_42 (dk_at dksX1_set_0 23 rfl rfl)
theorem dX1_set_24 : decode cX1_set 24 = .ok (.getfield 47, 3) := dk_180 0 47 (dk_at dksX1_set_1 0 rfl rfl)
theorem dX1_set_27 : decode cX1_set 27 = .ok (.getfield 110, 3) := dk_180 0 110 (dk_at dksX1_set_1 3 rfl rfl)
theorem dX1_set_30 : decode cX1_set 30 = .ok (.ifCond .le 6, 3) := dk_158 0 6 (dk_at dksX1_set_1 6 rfl rfl)
theorem dX1_set_33 : decode cX1_set 33 = .ok (.bipush (-2), 2) := dk_16 254 (dk_at dksX1_set_1 9 rfl rfl)
theorem dX1_set_35 : decode cX1_set 35 = .ok (.ireturn, 1) := dk_172 (dk_at dksX1_set_1 11 rfl rfl)
theorem dX1_set_36 : decode cX1_set 36 = .ok (.iload_n 1, 1) := dk_27 (dk_at dksX1_set_1 12 rfl rfl)
theorem dX1_set_37 : decode cX1_set 37 = .ok (.ifCond .eq 13, 3) := dk_153 0 13 (dk_at dksX1_set_1 13 rfl rfl)
theorem dX1_set_40 : decode cX1_set 40 = .ok (.aload_n 0, 1) := dk_42 (dk_at dksX1_set_1 16 rfl rfl)
theorem dX1_set_41 : decode cX1_set 41 = .ok (.getfield 47, 3) := dk_180 0 47 (dk_at dksX1_set_1 17 rfl rfl)
theorem dX1_set_44 : decode cX1_set 44 = .ok (.getfield 67, 3) := dk_180 0 67 (dk_at dksX1_set_1 20 rfl rfl)
theorem dX1_set_47 : decode cX1_set 47 = .ok (.goto 10, 3) := dk_167 0 10 (dk_at dksX1_set_2 0 rfl rfl)
theorem dX1_set_50 : decode cX1_set 50 = .ok (.aload_n 0, 1) := dk_42 (dk_at dksX1_set_2 3 rfl rfl)
theorem dX1_set_51 : decode cX1_set 51 = .ok (.getfield 47, 3) := dk_180 0 47 (dk_at dksX1_set_2 4 rfl rfl)
theorem dX1_set_54 : decode cX1_set 54 = .ok (.getfield 196, 3) := dk_180 0 196 (dk_at dksX1_set_2 7 rfl rfl)
theorem dX1_set_57 : decode cX1_set 57 = .ok (.istore_n 3, 1) := dk_62 (dk_at dksX1_set_2 10 rfl rfl)
theorem dX1_set_58 : decode cX1_set 58 = .ok (.aload_n 0, 1) := dk_42 (dk_at dksX1_set_2 11 rfl rfl)
theorem dX1_set_59 : decode cX1_set 59 = .ok (.invokevirtual 117, 3) := dk_182 0 117 (dk_at dksX1_set_2 12 rfl rfl)
theorem dX1_set_62 : decode cX1_set 62 = .ok (.astore 4, 2) := dk_58 4 (dk_at dksX1_set_2 15 rfl rfl)
theorem dX1_set_64 : decode cX1_set 64 = .ok (.iload_n 1, 1) := dk_27 (dk_at dksX1_set_2 17 rfl rfl)
theorem dX1_set_65 : decode cX1_set 65 = .ok (.ifCond .eq 12, 3) := dk_153 0 12 (dk_at dksX1_set_2 18 rfl rfl)
theorem dX1_set_68 : decode cX1_set 68 = .ok (.aload 4, 2) := dk_25 4 (dk_at dksX1_set_2 21 rfl rfl)
theorem dX1_set_70 : decode cX1_set 70 = .ok (.iload_n 2, 1) := dk_28 (dk_at dksX1_set_2 23 rfl rfl)
theorem dX1_set_71 : decode cX1_set 71 = .ok (.putfield 67, 3) := dk_181 0 67 (dk_at dksX1_set_3 0 rfl rfl)
theorem dX1_set_74 : decode cX1_set 74 = .ok (.goto 9, 3) := dk_167 0 9 (dk_at dksX1_set_3 3 rfl rfl)
theorem dX1_set_77 : decode cX1_set 77 = .ok (.aload 4, 2) := dk_25 4 (dk_at dksX1_set_3 6 rfl rfl)
theorem dX1_set_79 : decode cX1_set 79 = .ok (.iload_n 2, 1) := dk_28 (dk_at dksX1_set_3 8 rfl rfl)
theorem dX1_set_80 : decode cX1_set 80 = .ok (.putfield 196, 3) := dk_181 0 196 (dk_at dksX1_set_3 9 rfl rfl)
theorem dX1_set_83 : decode cX1_set 83 = .ok (.iload_n 3, 1) := dk_29 (dk_at dksX1_set_3 12 rfl rfl)
theorem dX1_set_84 : decode cX1_set 84 = .ok (.ireturn, 1) := dk_172 (dk_at dksX1_set_3 13 rfl rfl)
abbrev cX1_turn : ByteArray := prog_1_method_20_code
def yX1_turn : MethodName := ⟨RX1, "turn", "(II)I"⟩
def dkwX1_turn_1 : List UInt8 := [116, 172, 42, 182, 0, 117, 58, 5, 25, 5, 25, 5, 180, 0, 74, 29, 50, 192, 0, 53, 182, 0, 202, 172]
abbrev dktX1_turn_1 : List UInt8 := dkwX1_turn_1 ++ []
def dkwX1_turn_0 : List UInt8 := [42, 27, 28, 182, 0, 146, 62, 42, 180, 0, 47, 29, 182, 0, 199, 54, 4, 21, 4, 153, 0, 7, 21, 4]
abbrev dktX1_turn_0 : List UInt8 := dkwX1_turn_0 ++ dktX1_turn_1
theorem dksX1_turn_0 : cX1_turn.data.toList.drop 0 = dktX1_turn_0 := by decide +kernel
theorem dksX1_turn_1 : cX1_turn.data.toList.drop 24 = dktX1_turn_1 := dk_seg dksX1_turn_0 24 rfl rfl
theorem dX1_turn_0 : decode cX1_turn 0 = .ok (.aload_n 0, 1) := dk_42 (dk_at dksX1_turn_0 0 rfl rfl)
theorem dX1_turn_1 : decode cX1_turn 1 = .ok (.iload_n 1, 1) := dk_27 (dk_at dksX1_turn_0 1 rfl rfl)
theorem dX1_turn_2 : decode cX1_turn 2 = .ok (.iload_n 2, 1) := dk_28 (dk_at dksX1_turn_0 2 rfl rfl)
theorem dX1_turn_3 : decode cX1_turn 3 = .ok (.invokevirtual 146, 3) := dk_182 0 146 (dk_at dksX1_turn_0 3 rfl rfl)
theorem dX1_turn_6 : decode cX1_turn 6 = .ok (.istore_n 3, 1) := dk_62 (dk_at dksX1_turn_0 6 rfl rfl)
theorem dX1_turn_7 : decode cX1_turn 7 = .ok (.aload_n 0, 1) := dk_42 (dk_at dksX1_turn_0 7 rfl rfl)
theorem dX1_turn_8 : decode cX1_turn 8 = .ok (.getfield 47, 3) := dk_180 0 47 (dk_at dksX1_turn_0 8 rfl rfl)
theorem dX1_turn_11 : decode cX1_turn 11 = .ok (.iload_n 3, 1) := dk_29 (dk_at dksX1_turn_0 11 rfl rfl)
theorem dX1_turn_12 : decode cX1_turn 12 = .ok (.invokevirtual 199, 3) := dk_182 0 199 (dk_at dksX1_turn_0 12 rfl rfl)
theorem dX1_turn_15 : decode cX1_turn 15 = .ok (.istore 4, 2) := dk_54 4 (dk_at dksX1_turn_0 15 rfl rfl)
theorem dX1_turn_17 : decode cX1_turn 17 = .ok (.iload 4, 2) := dk_21 4 (dk_at dksX1_turn_0 17 rfl rfl)
theorem dX1_turn_19 : decode cX1_turn 19 = .ok (.ifCond .eq 7, 3) := dk_153 0 7 (dk_at dksX1_turn_0 19 rfl rfl)
theorem dX1_turn_22 : decode cX1_turn 22 = .ok (.iload 4, 2) := dk_21 4 (dk_at dksX1_turn_0 22 rfl rfl)
theorem dX1_turn_24 : decode cX1_turn 24 = .ok (.ineg, 1) := dk_116 (dk_at dksX1_turn_1 0 rfl rfl)
theorem dX1_turn_25 : decode cX1_turn 25 = .ok (.ireturn, 1) := dk_172 (dk_at dksX1_turn_1 1 rfl rfl)
theorem dX1_turn_26 : decode cX1_turn 26 = .ok (.aload_n 0, 1) := dk_42 (dk_at dksX1_turn_1 2 rfl rfl)
theorem dX1_turn_27 : decode cX1_turn 27 = .ok (.invokevirtual 117, 3) := dk_182 0 117 (dk_at dksX1_turn_1 3 rfl rfl)
theorem dX1_turn_30 : decode cX1_turn 30 = .ok (.astore 5, 2) := dk_58 5 (dk_at dksX1_turn_1 6 rfl rfl)
theorem dX1_turn_32 : decode cX1_turn 32 = .ok (.aload 5, 2) := dk_25 5 (dk_at dksX1_turn_1 8 rfl rfl)
theorem dX1_turn_34 : decode cX1_turn 34 = .ok (.aload 5, 2) := dk_25 5 (dk_at dksX1_turn_1 10 rfl rfl)
theorem dX1_turn_36 : decode cX1_turn 36 = .ok (.getfield 74, 3) := dk_180 0 74 (dk_at dksX1_turn_1 12 rfl rfl)
theorem dX1_turn_39 : decode cX1_turn 39 = .ok (.iload_n 3, 1) := dk_29 (dk_at dksX1_turn_1 15 rfl rfl)
theorem dX1_turn_40 : decode cX1_turn 40 = .ok (.aaload, 1) := dk_50 (dk_at dksX1_turn_1 16 rfl rfl)
theorem dX1_turn_41 : decode cX1_turn 41 = .ok (.checkcast 53, 3) := dk_192 0 53 (dk_at dksX1_turn_1 17 rfl rfl)
theorem dX1_turn_44 : decode cX1_turn 44 = .ok (.invokevirtual 202, 3) := dk_182 0 202 (dk_at dksX1_turn_1 20 rfl rfl)
theorem dX1_turn_47 : decode cX1_turn 47 = .ok (.ireturn, 1) := dk_172 (dk_at dksX1_turn_1 23 rfl rfl)
abbrev cX1_keep : ByteArray := prog_1_method_23_code
def yX1_keep : MethodName := ⟨RX1, "keep", "(I)I"⟩
def dkwX1_keep_1 : List UInt8 := [183, 0, 93, 83, 42, 180, 0, 47, 180, 0, 110, 172]
abbrev dktX1_keep_1 : List UInt8 := dkwX1_keep_1 ++ []
def dkwX1_keep_0 : List UInt8 := [27, 3, 4, 184, 0, 165, 184, 0, 169, 42, 180, 0, 34, 27, 187, 0, 32, 89, 42, 180, 0, 47]
abbrev dktX1_keep_0 : List UInt8 := dkwX1_keep_0 ++ dktX1_keep_1
theorem dksX1_keep_0 : cX1_keep.data.toList.drop 0 = dktX1_keep_0 := by decide +kernel
theorem dksX1_keep_1 : cX1_keep.data.toList.drop 22 = dktX1_keep_1 := dk_seg dksX1_keep_0 22 rfl rfl
theorem dX1_keep_0 : decode cX1_keep 0 = .ok (.iload_n 1, 1) := dk_27 (dk_at dksX1_keep_0 0 rfl rfl)
theorem dX1_keep_1 : decode cX1_keep 1 = .ok (.iconst 0, 1) := dk_3 (dk_at dksX1_keep_0 1 rfl rfl)
theorem dX1_keep_2 : decode cX1_keep 2 = .ok (.iconst 1, 1) := dk_4 (dk_at dksX1_keep_0 2 rfl rfl)
theorem dX1_keep_3 : decode cX1_keep 3 = .ok (.invokestatic 165, 3) := dk_184 0 165 (dk_at dksX1_keep_0 3 rfl rfl)
theorem dX1_keep_6 : decode cX1_keep 6 = .ok (.invokestatic 169, 3) := dk_184 0 169 (dk_at dksX1_keep_0 6 rfl rfl)
theorem dX1_keep_9 : decode cX1_keep 9 = .ok (.aload_n 0, 1) := dk_42 (dk_at dksX1_keep_0 9 rfl rfl)
theorem dX1_keep_10 : decode cX1_keep 10 = .ok (.getfield 34, 3) := dk_180 0 34 (dk_at dksX1_keep_0 10 rfl rfl)
theorem dX1_keep_13 : decode cX1_keep 13 = .ok (.iload_n 1, 1) := dk_27 (dk_at dksX1_keep_0 13 rfl rfl)
theorem dX1_keep_14 : decode cX1_keep 14 = .ok (.new 32, 3) := dk_187 0 32 (dk_at dksX1_keep_0 14 rfl rfl)
theorem dX1_keep_17 : decode cX1_keep 17 = .ok (.dup, 1) := dk_89 (dk_at dksX1_keep_0 17 rfl rfl)
theorem dX1_keep_18 : decode cX1_keep 18 = .ok (.aload_n 0, 1) := dk_42 (dk_at dksX1_keep_0 18 rfl rfl)
theorem dX1_keep_19 : decode cX1_keep 19 = .ok (.getfield 47, 3) := dk_180 0 47 (dk_at dksX1_keep_0 19 rfl rfl)
theorem dX1_keep_22 : decode cX1_keep 22 = .ok (.invokespecial 93, 3) := dk_183 0 93 (dk_at dksX1_keep_1 0 rfl rfl)
theorem dX1_keep_25 : decode cX1_keep 25 = .ok (.aastore, 1) := dk_83 (dk_at dksX1_keep_1 3 rfl rfl)
theorem dX1_keep_26 : decode cX1_keep 26 = .ok (.aload_n 0, 1) := dk_42 (dk_at dksX1_keep_1 4 rfl rfl)
theorem dX1_keep_27 : decode cX1_keep 27 = .ok (.getfield 47, 3) := dk_180 0 47 (dk_at dksX1_keep_1 5 rfl rfl)
theorem dX1_keep_30 : decode cX1_keep 30 = .ok (.getfield 110, 3) := dk_180 0 110 (dk_at dksX1_keep_1 8 rfl rfl)
theorem dX1_keep_33 : decode cX1_keep 33 = .ok (.ireturn, 1) := dk_172 (dk_at dksX1_keep_1 11 rfl rfl)
abbrev cX1_restore : ByteArray := prog_1_method_24_code
def yX1_restore : MethodName := ⟨RX1, "restore", "(I)I"⟩
def dkwX1_restore_2 : List UInt8 := [180, 0, 110, 172]
abbrev dktX1_restore_2 : List UInt8 := dkwX1_restore_2 ++ []
def dkwX1_restore_1 : List UInt8 := [89, 42, 180, 0, 34, 27, 50, 183, 0, 93, 181, 0, 47, 42, 180, 0, 28, 182, 0, 217, 42, 180, 0, 47]
abbrev dktX1_restore_1 : List UInt8 := dkwX1_restore_1 ++ dktX1_restore_2
def dkwX1_restore_0 : List UInt8 := [27, 3, 4, 184, 0, 165, 184, 0, 169, 42, 180, 0, 34, 27, 50, 199, 0, 5, 2, 172, 42, 187, 0, 32]
abbrev dktX1_restore_0 : List UInt8 := dkwX1_restore_0 ++ dktX1_restore_1
theorem dksX1_restore_0 : cX1_restore.data.toList.drop 0 = dktX1_restore_0 := by decide +kernel
theorem dksX1_restore_1 : cX1_restore.data.toList.drop 24 = dktX1_restore_1 := dk_seg dksX1_restore_0 24 rfl rfl
theorem dksX1_restore_2 : cX1_restore.data.toList.drop 48 = dktX1_restore_2 := dk_seg dksX1_restore_1 24 rfl rfl
theorem dX1_restore_0 : decode cX1_restore 0 = .ok (.iload_n 1, 1) := dk_27 (dk_at dksX1_restore_0 0 rfl rfl)
theorem dX1_restore_1 : decode cX1_restore 1 = .ok (.iconst 0, 1) := dk_3 (dk_at dksX1_restore_0 1 rfl rfl)
theorem dX1_restore_2 : decode cX1_restore 2 = .ok (.iconst 1, 1) := dk_4 (dk_at dksX1_restore_0 2 rfl rfl)
theorem dX1_restore_3 : decode cX1_restore 3 = .ok (.invokestatic 165, 3) := dk_184 0 165 (dk_at dksX1_restore_0 3 rfl rfl)
theorem dX1_restore_6 : decode cX1_restore 6 = .ok (.invokestatic 169, 3) := dk_184 0 169 (dk_at dksX1_restore_0 6 rfl rfl)
theorem dX1_restore_9 : decode cX1_restore 9 = .ok (.aload_n 0, 1) := dk_42 (dk_at dksX1_restore_0 9 rfl rfl)
theorem dX1_restore_10 : decode cX1_restore 10 = .ok (.getfield 34, 3) := dk_180 0 34 (dk_at dksX1_restore_0 10 rfl rfl)
theorem dX1_restore_13 : decode cX1_restore 13 = .ok (.iload_n 1, 1) := dk_27 (dk_at dksX1_restore_0 13 rfl rfl)
theorem dX1_restore_14 : decode cX1_restore 14 = .ok (.aaload, 1) := dk_50 (dk_at dksX1_restore_0 14 rfl rfl)
theorem dX1_restore_15 : decode cX1_restore 15 = .ok (.ifnonnull 5, 3) := dk_199 0 5 (dk_at dksX1_restore_0 15 rfl rfl)
theorem dX1_restore_18 : decode cX1_restore 18 = .ok (.iconst (-1), 1) := dk_2 (dk_at dksX1_restore_0 18 rfl rfl)
theorem dX1_restore_19 : decode cX1_restore 19 = .ok (.ireturn, 1) := dk_172 (dk_at dksX1_restore_0 19 rfl rfl)
theorem dX1_restore_20 : decode cX1_restore 20 = .ok (.aload_n 0, 1) := dk_42 (dk_at dksX1_restore_0 20 rfl rfl)
theorem dX1_restore_21 : decode cX1_restore 21 = .ok (.new 32, 3) := dk_187 0 32 (dk_at dksX1_restore_0 21 rfl rfl)
theorem dX1_restore_24 : decode cX1_restore 24 = .ok (.dup, 1) := dk_89 (dk_at dksX1_restore_1 0 rfl rfl)
theorem dX1_restore_25 : decode cX1_restore 25 = .ok (.aload_n 0, 1) := dk_42 (dk_at dksX1_restore_1 1 rfl rfl)
theorem dX1_restore_26 : decode cX1_restore 26 = .ok (.getfield 34, 3) := dk_180 0 34 (dk_at dksX1_restore_1 2 rfl rfl)
theorem dX1_restore_29 : decode cX1_restore 29 = .ok (.iload_n 1, 1) := dk_27 (dk_at dksX1_restore_1 5 rfl rfl)
theorem dX1_restore_30 : decode cX1_restore 30 = .ok (.aaload, 1) := dk_50 (dk_at dksX1_restore_1 6 rfl rfl)
theorem dX1_restore_31 : decode cX1_restore 31 = .ok (.invokespecial 93, 3) := dk_183 0 93 (dk_at dksX1_restore_1 7 rfl rfl)
theorem dX1_restore_34 : decode cX1_restore 34 = .ok (.putfield 47, 3) := dk_181 0 47 (dk_at dksX1_restore_1 10 rfl rfl)
theorem dX1_restore_37 : decode cX1_restore 37 = .ok (.aload_n 0, 1) := dk_42 (dk_at dksX1_restore_1 13 rfl rfl)
theorem dX1_restore_38 : decode cX1_restore 38 = .ok (.getfield 28, 3) := dk_180 0 28 (dk_at dksX1_restore_1 14 rfl rfl)
theorem dX1_restore_41 : decode cX1_restore 41 = .ok (.invokevirtual 217, 3) := dk_182 0 217 (dk_at dksX1_restore_1 17 rfl rfl)
theorem dX1_restore_44 : decode cX1_restore 44 = .ok (.aload_n 0, 1) := dk_42 (dk_at dksX1_restore_1 20 rfl rfl)
theorem dX1_restore_45 : decode cX1_restore 45 = .ok (.getfield 47, 3) := dk_180 0 47 (dk_at dksX1_restore_1 21 rfl rfl)
theorem dX1_restore_48 : decode cX1_restore 48 = .ok (.getfield 110, 3) := dk_180 0 110 (dk_at dksX1_restore_2 0 rfl rfl)
theorem dX1_restore_51 : decode cX1_restore 51 = .ok (.ireturn, 1) := dk_172 (dk_at dksX1_restore_2 3 rfl rfl)
abbrev cX1_truncate : ByteArray := prog_1_method_27_code
def yX1_truncate : MethodName := ⟨RX1, "truncate", "(I)I"⟩
def dkwX1_truncate_0 : List UInt8 := [27, 3, 42, 180, 0, 120, 184, 0, 165, 184, 0, 169, 42, 27, 181, 0, 120, 27, 172]
abbrev dktX1_truncate_0 : List UInt8 := dkwX1_truncate_0 ++ []
theorem dksX1_truncate_0 : cX1_truncate.data.toList.drop 0 = dktX1_truncate_0 := by decide +kernel
theorem dX1_truncate_0 : decode cX1_truncate 0 = .ok (.iload_n 1, 1) := dk_27 (dk_at dksX1_truncate_0 0 rfl rfl)
theorem dX1_truncate_1 : decode cX1_truncate 1 = .ok (.iconst 0, 1) := dk_3 (dk_at dksX1_truncate_0 1 rfl rfl)
theorem dX1_truncate_2 : decode cX1_truncate 2 = .ok (.aload_n 0, 1) := dk_42 (dk_at dksX1_truncate_0 2 rfl rfl)
theorem dX1_truncate_3 : decode cX1_truncate 3 = .ok (.getfield 120, 3) := dk_180 0 120 (dk_at dksX1_truncate_0 3 rfl rfl)
theorem dX1_truncate_6 : decode cX1_truncate 6 = .ok (.invokestatic 165, 3) := dk_184 0 165 (dk_at dksX1_truncate_0 6 rfl rfl)
theorem dX1_truncate_9 : decode cX1_truncate 9 = .ok (.invokestatic 169, 3) := dk_184 0 169 (dk_at dksX1_truncate_0 9 rfl rfl)
theorem dX1_truncate_12 : decode cX1_truncate 12 = .ok (.aload_n 0, 1) := dk_42 (dk_at dksX1_truncate_0 12 rfl rfl)
theorem dX1_truncate_13 : decode cX1_truncate 13 = .ok (.iload_n 1, 1) := dk_27 (dk_at dksX1_truncate_0 13 rfl rfl)
theorem dX1_truncate_14 : decode cX1_truncate 14 = .ok (.putfield 120, 3) := dk_181 0 120 (dk_at dksX1_truncate_0 14 rfl rfl)
theorem dX1_truncate_17 : decode cX1_truncate 17 = .ok (.iload_n 1, 1) := dk_27 (dk_at dksX1_truncate_0 17 rfl rfl)
theorem dX1_truncate_18 : decode cX1_truncate 18 = .ok (.ireturn, 1) := dk_172 (dk_at dksX1_truncate_0 18 rfl rfl)
abbrev cX1_board : ByteArray := prog_1_method_28_code
def yX1_board : MethodName := ⟨RX1, "board", "(I)I"⟩
def dkwX1_board_9 : List UInt8 := [42, 180, 0, 120, 172]
abbrev dktX1_board_9 : List UInt8 := dkwX1_board_9 ++ []
def dkwX1_board_8 : List UInt8 := [42, 180, 0, 47, 27, 16, 11, 100, 182, 0, 234, 167, 0, 17, 42, 180, 0, 28, 182, 0, 81, 167, 0, 7]
abbrev dktX1_board_8 : List UInt8 := dkwX1_board_8 ++ dktX1_board_9
def dkwX1_board_7 : List UInt8 := [182, 0, 205, 153, 0, 7, 4, 167, 0, 45, 3, 167, 0, 41, 42, 180, 0, 47, 182, 0, 231, 167, 0, 31]
abbrev dktX1_board_7 : List UInt8 := dkwX1_board_7 ++ dktX1_board_8
def dkwX1_board_6 : List UInt8 := [180, 0, 47, 180, 0, 110, 167, 0, 69, 42, 180, 0, 47, 182, 0, 228, 167, 0, 59, 42, 180, 0, 47]
abbrev dktX1_board_6 : List UInt8 := dkwX1_board_6 ++ dktX1_board_7
def dkwX1_board_5 : List UInt8 := [167, 0, 99, 42, 180, 0, 47, 180, 0, 196, 167, 0, 89, 42, 180, 0, 47, 180, 0, 67, 167, 0, 79, 42]
abbrev dktX1_board_5 : List UInt8 := dkwX1_board_5 ++ dktX1_board_6
def dkwX1_board_4 : List UInt8 := [42, 180, 0, 47, 16, 6, 182, 0, 161, 5, 108, 167, 0, 110, 42, 180, 0, 47, 3, 182, 0, 161]
abbrev dktX1_board_4 : List UInt8 := dkwX1_board_4 ++ dktX1_board_5
def dkwX1_board_3 : List UInt8 := [4, 182, 0, 131, 182, 0, 135, 167, 0, 138, 42, 180, 0, 47, 3, 182, 0, 131, 182, 0, 135, 167, 0, 124]
abbrev dktX1_board_3 : List UInt8 := dkwX1_board_3 ++ dktX1_board_4
def dkwX1_board_2 : List UInt8 := [42, 180, 0, 47, 180, 0, 222, 167, 0, 162, 42, 180, 0, 47, 180, 0, 225, 167, 0, 152, 42, 180, 0, 47]
abbrev dktX1_board_2 : List UInt8 := dkwX1_board_2 ++ dktX1_board_3
def dkwX1_board_1 : List UInt8 := [170, 0, 0, 0, 238, 0, 0, 0, 0, 0, 0, 0, 14, 0, 0, 0, 73, 0, 0, 0, 83, 0, 0, 0, 93, 0, 0, 0, 107, 0, 0, 0, 121, 0, 0, 0, 135, 0, 0, 0, 146, 0, 0, 0, 156, 0, 0, 0, 166, 0, 0, 0, 176, 0, 0, 0, 186, 0, 0, 0, 204, 0, 0, 0, 214, 0, 0, 0, 214, 0, 0, 0, 228]
abbrev dktX1_board_1 : List UInt8 := dkwX1_board_1 ++ dktX1_board_2
def dkwX1_board_0 : List UInt8 := [27, 3, 16, 15, 184, 0, 165, 184, 0, 169, 27]
abbrev dktX1_board_0 : List UInt8 := dkwX1_board_0 ++ dktX1_board_1
theorem dksX1_board_0 : cX1_board.data.toList.drop 0 = dktX1_board_0 := by decide +kernel
theorem dksX1_board_1 : cX1_board.data.toList.drop 11 = dktX1_board_1 := dk_seg dksX1_board_0 11 rfl rfl
theorem dksX1_board_2 : cX1_board.data.toList.drop 84 = dktX1_board_2 := dk_seg dksX1_board_1 73 rfl rfl
theorem dksX1_board_3 : cX1_board.data.toList.drop 108 = dktX1_board_3 := dk_seg dksX1_board_2 24 rfl rfl
theorem dksX1_board_4 : cX1_board.data.toList.drop 132 = dktX1_board_4 := dk_seg dksX1_board_3 24 rfl rfl
theorem dksX1_board_5 : cX1_board.data.toList.drop 154 = dktX1_board_5 := dk_seg dksX1_board_4 22 rfl rfl
theorem dksX1_board_6 : cX1_board.data.toList.drop 178 = dktX1_board_6 := dk_seg dksX1_board_5 24 rfl rfl
theorem dksX1_board_7 : cX1_board.data.toList.drop 201 = dktX1_board_7 := dk_seg dksX1_board_6 23 rfl rfl
theorem dksX1_board_8 : cX1_board.data.toList.drop 225 = dktX1_board_8 := dk_seg dksX1_board_7 24 rfl rfl
theorem dksX1_board_9 : cX1_board.data.toList.drop 249 = dktX1_board_9 := dk_seg dksX1_board_8 24 rfl rfl
theorem dX1_board_0 : decode cX1_board 0 = .ok (.iload_n 1, 1) := dk_27 (dk_at dksX1_board_0 0 rfl rfl)
theorem dX1_board_1 : decode cX1_board 1 = .ok (.iconst 0, 1) := dk_3 (dk_at dksX1_board_0 1 rfl rfl)
theorem dX1_board_2 : decode cX1_board 2 = .ok (.bipush 15, 2) := dk_16 15 (dk_at dksX1_board_0 2 rfl rfl)
theorem dX1_board_4 : decode cX1_board 4 = .ok (.invokestatic 165, 3) := dk_184 0 165 (dk_at dksX1_board_0 4 rfl rfl)
theorem dX1_board_7 : decode cX1_board 7 = .ok (.invokestatic 169, 3) := dk_184 0 169 (dk_at dksX1_board_0 7 rfl rfl)
theorem dX1_board_10 : decode cX1_board 10 = .ok (.iload_n 1, 1) := dk_27 (dk_at dksX1_board_0 10 rfl rfl)
theorem dX1_board_11 : decode cX1_board 11 = .ok (.tableswitch 238 0 14 #[73, 83, 93, 107, 121, 135, 146, 156, 166, 176, 186, 204, 214, 214, 228], 73) := by decide +kernel
theorem dX1_board_84 : decode cX1_board 84 = .ok (.aload_n 0, 1) := dk_42 (dk_at dksX1_board_2 0 rfl rfl)
theorem dX1_board_85 : decode cX1_board 85 = .ok (.getfield 47, 3) := dk_180 0 47 (dk_at dksX1_board_2 1 rfl rfl)
theorem dX1_board_88 : decode cX1_board 88 = .ok (.getfield 222, 3) := dk_180 0 222 (dk_at dksX1_board_2 4 rfl rfl)
theorem dX1_board_91 : decode cX1_board 91 = .ok (.goto 162, 3) := dk_167 0 162 (dk_at dksX1_board_2 7 rfl rfl)
theorem dX1_board_94 : decode cX1_board 94 = .ok (.aload_n 0, 1) := dk_42 (dk_at dksX1_board_2 10 rfl rfl)
theorem dX1_board_95 : decode cX1_board 95 = .ok (.getfield 47, 3) := dk_180 0 47 (dk_at dksX1_board_2 11 rfl rfl)
theorem dX1_board_98 : decode cX1_board 98 = .ok (.getfield 225, 3) := dk_180 0 225 (dk_at dksX1_board_2 14 rfl rfl)
theorem dX1_board_101 : decode cX1_board 101 = .ok (.goto 152, 3) := dk_167 0 152 (dk_at dksX1_board_2 17 rfl rfl)
theorem dX1_board_104 : decode cX1_board 104 = .ok (.aload_n 0, 1) := dk_42 (dk_at dksX1_board_2 20 rfl rfl)
theorem dX1_board_105 : decode cX1_board 105 = .ok (.getfield 47, 3) := dk_180 0 47 (dk_at dksX1_board_2 21 rfl rfl)
theorem dX1_board_108 : decode cX1_board 108 = .ok (.iconst 1, 1) := dk_4 (dk_at dksX1_board_3 0 rfl rfl)
theorem dX1_board_109 : decode cX1_board 109 = .ok (.invokevirtual 131, 3) := dk_182 0 131 (dk_at dksX1_board_3 1 rfl rfl)
theorem dX1_board_112 : decode cX1_board 112 = .ok (.invokevirtual 135, 3) := dk_182 0 135 (dk_at dksX1_board_3 4 rfl rfl)
theorem dX1_board_115 : decode cX1_board 115 = .ok (.goto 138, 3) := dk_167 0 138 (dk_at dksX1_board_3 7 rfl rfl)
theorem dX1_board_118 : decode cX1_board 118 = .ok (.aload_n 0, 1) := dk_42 (dk_at dksX1_board_3 10 rfl rfl)
theorem dX1_board_119 : decode cX1_board 119 = .ok (.getfield 47, 3) := dk_180 0 47 (dk_at dksX1_board_3 11 rfl rfl)
theorem dX1_board_122 : decode cX1_board 122 = .ok (.iconst 0, 1) := dk_3 (dk_at dksX1_board_3 14 rfl rfl)
theorem dX1_board_123 : decode cX1_board 123 = .ok (.invokevirtual 131, 3) := dk_182 0 131 (dk_at dksX1_board_3 15 rfl rfl)
theorem dX1_board_126 : decode cX1_board 126 = .ok (.invokevirtual 135, 3) := dk_182 0 135 (dk_at dksX1_board_3 18 rfl rfl)
theorem dX1_board_129 : decode cX1_board 129 = .ok (.goto 124, 3) := dk_167 0 124 (dk_at dksX1_board_3 21 rfl rfl)
theorem dX1_board_132 : decode cX1_board 132 = .ok (.aload_n 0, 1) := dk_42 (dk_at dksX1_board_4 0 rfl rfl)
theorem dX1_board_133 : decode cX1_board 133 = .ok (.getfield 47, 3) := dk_180 0 47 (dk_at dksX1_board_4 1 rfl rfl)
theorem dX1_board_136 : decode cX1_board 136 = .ok (.bipush 6, 2) := dk_16 6 (dk_at dksX1_board_4 4 rfl rfl)
theorem dX1_board_138 : decode cX1_board 138 = .ok (.invokevirtual 161, 3) := dk_182 0 161 (dk_at dksX1_board_4 6 rfl rfl)
theorem dX1_board_141 : decode cX1_board 141 = .ok (.iconst 2, 1) := dk_5 (dk_at dksX1_board_4 9 rfl rfl)
theorem dX1_board_142 : decode cX1_board 142 = .ok (.idiv, 1) := dk_108 (dk_at dksX1_board_4 10 rfl rfl)
theorem dX1_board_143 : decode cX1_board 143 = .ok (.goto 110, 3) := dk_167 0 110 (dk_at dksX1_board_4 11 rfl rfl)
theorem dX1_board_146 : decode cX1_board 146 = .ok (.aload_n 0, 1) := dk_42 (dk_at dksX1_board_4 14 rfl rfl)
theorem dX1_board_147 : decode cX1_board 147 = .ok (.getfield 47, 3) := dk_180 0 47 (dk_at dksX1_board_4 15 rfl rfl)
theorem dX1_board_150 : decode cX1_board 150 = .ok (.iconst 0, 1) := dk_3 (dk_at dksX1_board_4 18 rfl rfl)
theorem dX1_board_151 : decode cX1_board 151 = .ok (.invokevirtual 161, 3) := dk_182 0 161 (dk_at dksX1_board_4 19 rfl rfl)
theorem dX1_board_154 : decode cX1_board 154 = .ok (.goto 99, 3) := dk_167 0 99 (dk_at dksX1_board_5 0 rfl rfl)
theorem dX1_board_157 : decode cX1_board 157 = .ok (.aload_n 0, 1) := dk_42 (dk_at dksX1_board_5 3 rfl rfl)
theorem dX1_board_158 : decode cX1_board 158 = .ok (.getfield 47, 3) := dk_180 0 47 (dk_at dksX1_board_5 4 rfl rfl)
theorem dX1_board_161 : decode cX1_board 161 = .ok (.getfield 196, 3) := dk_180 0 196 (dk_at dksX1_board_5 7 rfl rfl)
theorem dX1_board_164 : decode cX1_board 164 = .ok (.goto 89, 3) := dk_167 0 89 (dk_at dksX1_board_5 10 rfl rfl)
theorem dX1_board_167 : decode cX1_board 167 = .ok (.aload_n 0, 1) := dk_42 (dk_at dksX1_board_5 13 rfl rfl)
theorem dX1_board_168 : decode cX1_board 168 = .ok (.getfield 47, 3) := dk_180 0 47 (dk_at dksX1_board_5 14 rfl rfl)
theorem dX1_board_171 : decode cX1_board 171 = .ok (.getfield 67, 3) := dk_180 0 67 (dk_at dksX1_board_5 17 rfl rfl)
theorem dX1_board_174 : decode cX1_board 174 = .ok (.goto 79, 3) := dk_167 0 79 (dk_at dksX1_board_5 20 rfl rfl)
theorem dX1_board_177 : decode cX1_board 177 = .ok (.aload_n 0, 1) := dk_42 (dk_at dksX1_board_5 23 rfl rfl)
theorem dX1_board_178 : decode cX1_board 178 = .ok (.getfield 47, 3) := dk_180 0 47 (dk_at dksX1_board_6 0 rfl rfl)
theorem dX1_board_181 : decode cX1_board 181 = .ok (.getfield 110, 3) := dk_180 0 110 (dk_at dksX1_board_6 3 rfl rfl)
theorem dX1_board_184 : decode cX1_board 184 = .ok (.goto 69, 3) := dk_167 0 69 (dk_at dksX1_board_6 6 rfl rfl)
theorem dX1_board_187 : decode cX1_board 187 = .ok (.aload_n 0, 1) := dk_42 (dk_at dksX1_board_6 9 rfl rfl)
theorem dX1_board_188 : decode cX1_board 188 = .ok (.getfield 47, 3) := dk_180 0 47 (dk_at dksX1_board_6 10 rfl rfl)
theorem dX1_board_191 : decode cX1_board 191 = .ok (.invokevirtual 228, 3) := dk_182 0 228 (dk_at dksX1_board_6 13 rfl rfl)
theorem dX1_board_194 : decode cX1_board 194 = .ok (.goto 59, 3) := dk_167 0 59 (dk_at dksX1_board_6 16 rfl rfl)
theorem dX1_board_197 : decode cX1_board 197 = .ok (.aload_n 0, 1) := dk_42 (dk_at dksX1_board_6 19 rfl rfl)
theorem dX1_board_198 : decode cX1_board 198 = .ok (.getfield 47, 3) := dk_180 0 47 (dk_at dksX1_board_6 20 rfl rfl)
theorem dX1_board_201 : decode cX1_board 201 = .ok (.invokevirtual 205, 3) := dk_182 0 205 (dk_at dksX1_board_7 0 rfl rfl)
theorem dX1_board_204 : decode cX1_board 204 = .ok (.ifCond .eq 7, 3) := dk_153 0 7 (dk_at dksX1_board_7 3 rfl rfl)
theorem dX1_board_207 : decode cX1_board 207 = .ok (.iconst 1, 1) := dk_4 (dk_at dksX1_board_7 6 rfl rfl)
theorem dX1_board_208 : decode cX1_board 208 = .ok (.goto 45, 3) := dk_167 0 45 (dk_at dksX1_board_7 7 rfl rfl)
theorem dX1_board_211 : decode cX1_board 211 = .ok (.iconst 0, 1) := dk_3 (dk_at dksX1_board_7 10 rfl rfl)
theorem dX1_board_212 : decode cX1_board 212 = .ok (.goto 41, 3) := dk_167 0 41 (dk_at dksX1_board_7 11 rfl rfl)
theorem dX1_board_215 : decode cX1_board 215 = .ok (.aload_n 0, 1) := dk_42 (dk_at dksX1_board_7 14 rfl rfl)
theorem dX1_board_216 : decode cX1_board 216 = .ok (.getfield 47, 3) := dk_180 0 47 (dk_at dksX1_board_7 15 rfl rfl)
theorem dX1_board_219 : decode cX1_board 219 = .ok (.invokevirtual 231, 3) := dk_182 0 231 (dk_at dksX1_board_7 18 rfl rfl)
theorem dX1_board_222 : decode cX1_board 222 = .ok (.goto 31, 3) := dk_167 0 31 (dk_at dksX1_board_7 21 rfl rfl)
theorem dX1_board_225 : decode cX1_board 225 = .ok (.aload_n 0, 1) := dk_42 (dk_at dksX1_board_8 0 rfl rfl)
theorem dX1_board_226 : decode cX1_board 226 = .ok (.getfield 47, 3) := dk_180 0 47 (dk_at dksX1_board_8 1 rfl rfl)
theorem dX1_board_229 : decode cX1_board 229 = .ok (.iload_n 1, 1) := dk_27 (dk_at dksX1_board_8 4 rfl rfl)
theorem dX1_board_230 : decode cX1_board 230 = .ok (.bipush 11, 2) := dk_16 11 (dk_at dksX1_board_8 5 rfl rfl)
theorem dX1_board_232 : decode cX1_board 232 = .ok (.isub, 1) := dk_100 (dk_at dksX1_board_8 7 rfl rfl)
theorem dX1_board_233 : decode cX1_board 233 = .ok (.invokevirtual 234, 3) := dk_182 0 234 (dk_at dksX1_board_8 8 rfl rfl)
theorem dX1_board_236 : decode cX1_board 236 = .ok (.goto 17, 3) := dk_167 0 17 (dk_at dksX1_board_8 11 rfl rfl)
theorem dX1_board_239 : decode cX1_board 239 = .ok (.aload_n 0, 1) := dk_42 (dk_at dksX1_board_8 14 rfl rfl)
theorem dX1_board_240 : decode cX1_board 240 = .ok (.getfield 28, 3) := dk_180 0 28 (dk_at dksX1_board_8 15 rfl rfl)
theorem dX1_board_243 : decode cX1_board 243 = .ok (.invokevirtual 81, 3) := dk_182 0 81 (dk_at dksX1_board_8 18 rfl rfl)
theorem dX1_board_246 : decode cX1_board 246 = .ok (.goto 7, 3) := dk_167 0 7 (dk_at dksX1_board_8 21 rfl rfl)
theorem dX1_board_249 : decode cX1_board 249 = .ok (.aload_n 0, 1) := dk_42 (dk_at dksX1_board_9 0 rfl rfl)
theorem dX1_board_250 : decode cX1_board 250 = .ok (.getfield 120, 3) := dk_180 0 120 (dk_at dksX1_board_9 1 rfl rfl)
theorem dX1_board_253 : decode cX1_board 253 = .ok (.ireturn, 1) := dk_172 (dk_at dksX1_board_9 4 rfl rfl)
abbrev cX1_cell : ByteArray := prog_1_method_29_code
def yX1_cell : MethodName := ⟨RX1, "cell", "(III)I"⟩
def dkwX1_cell_5 : List UInt8 := [172, 42, 180, 0, 47, 182, 0, 240, 25, 4, 180, 0, 78, 182, 0, 243, 172]
abbrev dktX1_cell_5 : List UInt8 := dkwX1_cell_5 ++ []
def dkwX1_cell_4 : List UInt8 := [154, 0, 11, 25, 4, 193, 0, 58, 153, 0, 15, 42, 180, 0, 47, 25, 4, 182, 0, 173, 167, 0, 4, 2]
abbrev dktX1_cell_4 : List UInt8 := dkwX1_cell_4 ++ dktX1_cell_5
def dkwX1_cell_3 : List UInt8 := [25, 4, 182, 0, 107, 172, 25, 4, 182, 0, 183, 172, 25, 4, 182, 0, 237, 172, 25, 4, 193, 0, 53]
abbrev dktX1_cell_3 : List UInt8 := dkwX1_cell_3 ++ dktX1_cell_4
def dkwX1_cell_2 : List UInt8 := [170, 0, 0, 0, 0, 78, 0, 0, 0, 0, 0, 0, 0, 3, 0, 0, 0, 30, 0, 0, 0, 36, 0, 0, 0, 42, 0, 0, 0, 48]
abbrev dktX1_cell_2 : List UInt8 := dkwX1_cell_2 ++ dktX1_cell_3
def dkwX1_cell_1 : List UInt8 := [184, 0, 169, 29]
abbrev dktX1_cell_1 : List UInt8 := dkwX1_cell_1 ++ dktX1_cell_2
def dkwX1_cell_0 : List UInt8 := [42, 180, 0, 47, 180, 0, 74, 42, 27, 28, 182, 0, 146, 50, 58, 4, 29, 3, 7, 184, 0, 165]
abbrev dktX1_cell_0 : List UInt8 := dkwX1_cell_0 ++ dktX1_cell_1
theorem dksX1_cell_0 : cX1_cell.data.toList.drop 0 = dktX1_cell_0 := by decide +kernel
theorem dksX1_cell_1 : cX1_cell.data.toList.drop 22 = dktX1_cell_1 := dk_seg dksX1_cell_0 22 rfl rfl
theorem dksX1_cell_2 : cX1_cell.data.toList.drop 26 = dktX1_cell_2 := dk_seg dksX1_cell_1 4 rfl rfl
theorem dksX1_cell_3 : cX1_cell.data.toList.drop 56 = dktX1_cell_3 := dk_seg dksX1_cell_2 30 rfl rfl
theorem dksX1_cell_4 : cX1_cell.data.toList.drop 79 = dktX1_cell_4 := dk_seg dksX1_cell_3 23 rfl rfl
theorem dksX1_cell_5 : cX1_cell.data.toList.drop 103 = dktX1_cell_5 := dk_seg dksX1_cell_4 24 rfl rfl
theorem dX1_cell_0 : decode cX1_cell 0 = .ok (.aload_n 0, 1) := dk_42 (dk_at dksX1_cell_0 0 rfl rfl)
theorem dX1_cell_1 : decode cX1_cell 1 = .ok (.getfield 47, 3) := dk_180 0 47 (dk_at dksX1_cell_0 1 rfl rfl)
theorem dX1_cell_4 : decode cX1_cell 4 = .ok (.getfield 74, 3) := dk_180 0 74 (dk_at dksX1_cell_0 4 rfl rfl)
theorem dX1_cell_7 : decode cX1_cell 7 = .ok (.aload_n 0, 1) := dk_42 (dk_at dksX1_cell_0 7 rfl rfl)
theorem dX1_cell_8 : decode cX1_cell 8 = .ok (.iload_n 1, 1) := dk_27 (dk_at dksX1_cell_0 8 rfl rfl)
theorem dX1_cell_9 : decode cX1_cell 9 = .ok (.iload_n 2, 1) := dk_28 (dk_at dksX1_cell_0 9 rfl rfl)
theorem dX1_cell_10 : decode cX1_cell 10 = .ok (.invokevirtual 146, 3) := dk_182 0 146 (dk_at dksX1_cell_0 10 rfl rfl)
theorem dX1_cell_13 : decode cX1_cell 13 = .ok (.aaload, 1) := dk_50 (dk_at dksX1_cell_0 13 rfl rfl)
theorem dX1_cell_14 : decode cX1_cell 14 = .ok (.astore 4, 2) := dk_58 4 (dk_at dksX1_cell_0 14 rfl rfl)
theorem dX1_cell_16 : decode cX1_cell 16 = .ok (.iload_n 3, 1) := dk_29 (dk_at dksX1_cell_0 16 rfl rfl)
theorem dX1_cell_17 : decode cX1_cell 17 = .ok (.iconst 0, 1) := dk_3 (dk_at dksX1_cell_0 17 rfl rfl)
theorem dX1_cell_18 : decode cX1_cell 18 = .ok (.iconst 4, 1) := dk_7 (dk_at dksX1_cell_0 18 rfl rfl)
theorem dX1_cell_19 : decode cX1_cell 19 = .ok (.invokestatic 165, 3) := dk_184 0 165 (dk_at dksX1_cell_0 19 rfl rfl)
theorem dX1_cell_22 : decode cX1_cell 22 = .ok (.invokestatic 169, 3) := dk_184 0 169 (dk_at dksX1_cell_1 0 rfl rfl)
theorem dX1_cell_25 : decode cX1_cell 25 = .ok (.iload_n 3, 1) := dk_29 (dk_at dksX1_cell_1 3 rfl rfl)
theorem dX1_cell_26 : decode cX1_cell 26 = .ok (.tableswitch 78 0 3 #[30, 36, 42, 48], 30) := by decide +kernel
theorem dX1_cell_56 : decode cX1_cell 56 = .ok (.aload 4, 2) := dk_25 4 (dk_at dksX1_cell_3 0 rfl rfl)
theorem dX1_cell_58 : decode cX1_cell 58 = .ok (.invokevirtual 107, 3) := dk_182 0 107 (dk_at dksX1_cell_3 2 rfl rfl)
theorem dX1_cell_61 : decode cX1_cell 61 = .ok (.ireturn, 1) := dk_172 (dk_at dksX1_cell_3 5 rfl rfl)
theorem dX1_cell_62 : decode cX1_cell 62 = .ok (.aload 4, 2) := dk_25 4 (dk_at dksX1_cell_3 6 rfl rfl)
theorem dX1_cell_64 : decode cX1_cell 64 = .ok (.invokevirtual 183, 3) := dk_182 0 183 (dk_at dksX1_cell_3 8 rfl rfl)
theorem dX1_cell_67 : decode cX1_cell 67 = .ok (.ireturn, 1) := dk_172 (dk_at dksX1_cell_3 11 rfl rfl)
theorem dX1_cell_68 : decode cX1_cell 68 = .ok (.aload 4, 2) := dk_25 4 (dk_at dksX1_cell_3 12 rfl rfl)
theorem dX1_cell_70 : decode cX1_cell 70 = .ok (.invokevirtual 237, 3) := dk_182 0 237 (dk_at dksX1_cell_3 14 rfl rfl)
theorem dX1_cell_73 : decode cX1_cell 73 = .ok (.ireturn, 1) := dk_172 (dk_at dksX1_cell_3 17 rfl rfl)
theorem dX1_cell_74 : decode cX1_cell 74 = .ok (.aload 4, 2) := dk_25 4 (dk_at dksX1_cell_3 18 rfl rfl)
theorem dX1_cell_76 : decode cX1_cell 76 = .ok (.instanceof 53, 3) := dk_193 0 53 (dk_at dksX1_cell_3 20 rfl rfl)
theorem dX1_cell_79 : decode cX1_cell 79 = .ok (.ifCond .ne 11, 3) := dk_154 0 11 (dk_at dksX1_cell_4 0 rfl rfl)
theorem dX1_cell_82 : decode cX1_cell 82 = .ok (.aload 4, 2) := dk_25 4 (dk_at dksX1_cell_4 3 rfl rfl)
theorem dX1_cell_84 : decode cX1_cell 84 = .ok (.instanceof 58, 3) := dk_193 0 58 (dk_at dksX1_cell_4 5 rfl rfl)
theorem dX1_cell_87 : decode cX1_cell 87 = .ok (.ifCond .eq 15, 3) := dk_153 0 15 (dk_at dksX1_cell_4 8 rfl rfl)
theorem dX1_cell_90 : decode cX1_cell 90 = .ok (.aload_n 0, 1) := dk_42 (dk_at dksX1_cell_4 11 rfl rfl)
theorem dX1_cell_91 : decode cX1_cell 91 = .ok (.getfield 47, 3) := dk_180 0 47 (dk_at dksX1_cell_4 12 rfl rfl)
theorem dX1_cell_94 : decode cX1_cell 94 = .ok (.aload 4, 2) := dk_25 4 (dk_at dksX1_cell_4 15 rfl rfl)
theorem dX1_cell_96 : decode cX1_cell 96 = .ok (.invokevirtual 173, 3) := dk_182 0 173 (dk_at dksX1_cell_4 17 rfl rfl)
theorem dX1_cell_99 : decode cX1_cell 99 = .ok (.goto 4, 3) := dk_167 0 4 (dk_at dksX1_cell_4 20 rfl rfl)
theorem dX1_cell_102 : decode cX1_cell 102 = .ok (.iconst (-1), 1) := dk_2 (dk_at dksX1_cell_4 23 rfl rfl)
theorem dX1_cell_103 : decode cX1_cell 103 = .ok (.ireturn, 1) := dk_172 (dk_at dksX1_cell_5 0 rfl rfl)
theorem dX1_cell_104 : decode cX1_cell 104 = .ok (.aload_n 0, 1) := dk_42 (dk_at dksX1_cell_5 1 rfl rfl)
theorem dX1_cell_105 : decode cX1_cell 105 = .ok (.getfield 47, 3) := dk_180 0 47 (dk_at dksX1_cell_5 2 rfl rfl)
theorem dX1_cell_108 : decode cX1_cell 108 = .ok (.invokevirtual 240, 3) := dk_182 0 240 (dk_at dksX1_cell_5 5 rfl rfl)
theorem dX1_cell_111 : decode cX1_cell 111 = .ok (.aload 4, 2) := dk_25 4 (dk_at dksX1_cell_5 8 rfl rfl)
theorem dX1_cell_113 : decode cX1_cell 113 = .ok (.getfield 78, 3) := dk_180 0 78 (dk_at dksX1_cell_5 10 rfl rfl)
theorem dX1_cell_116 : decode cX1_cell 116 = .ok (.invokevirtual 243, 3) := dk_182 0 243 (dk_at dksX1_cell_5 13 rfl rfl)
theorem dX1_cell_119 : decode cX1_cell 119 = .ok (.ireturn, 1) := dk_172 (dk_at dksX1_cell_5 16 rfl rfl)
abbrev cX1_mirror : ByteArray := prog_1_method_32_code
def yX1_mirror : MethodName := ⟨RX1, "mirror", "(II)I"⟩
def dkwX1_mirror_5 : List UInt8 := [42, 45, 180, 1, 6, 182, 1, 20, 172]
abbrev dktX1_mirror_5 : List UInt8 := dkwX1_mirror_5 ++ []
def dkwX1_mirror_4 : List UInt8 := [180, 1, 17, 172, 42, 180, 0, 47, 45, 180, 1, 6, 182, 0, 199, 154, 0, 7, 4, 167, 0, 4, 3, 172]
abbrev dktX1_mirror_4 : List UInt8 := dkwX1_mirror_4 ++ dktX1_mirror_5
def dkwX1_mirror_3 : List UInt8 := [180, 1, 10, 172, 45, 180, 1, 12, 172, 45, 180, 1, 13, 153, 0, 7, 4, 167, 0, 4, 3, 172, 45]
abbrev dktX1_mirror_3 : List UInt8 := dkwX1_mirror_3 ++ dktX1_mirror_4
def dkwX1_mirror_2 : List UInt8 := [45, 180, 1, 6, 16, 10, 112, 172, 45, 180, 1, 6, 16, 10, 108, 172, 45, 180, 1, 7, 172, 45]
abbrev dktX1_mirror_2 : List UInt8 := dkwX1_mirror_2 ++ dktX1_mirror_3
def dkwX1_mirror_1 : List UInt8 := [170, 0, 0, 0, 0, 0, 116, 0, 0, 0, 0, 0, 0, 0, 7, 0, 0, 0, 47, 0, 0, 0, 55, 0, 0, 0, 63, 0, 0, 0, 68, 0, 0, 0, 73, 0, 0, 0, 78, 0, 0, 0, 91, 0, 0, 0, 96]
abbrev dktX1_mirror_1 : List UInt8 := dkwX1_mirror_1 ++ dktX1_mirror_2
def dkwX1_mirror_0 : List UInt8 := [42, 4, 27, 182, 1, 2, 192, 0, 53, 78, 28, 3, 16, 8, 184, 0, 165, 184, 0, 169, 28]
abbrev dktX1_mirror_0 : List UInt8 := dkwX1_mirror_0 ++ dktX1_mirror_1
theorem dksX1_mirror_0 : cX1_mirror.data.toList.drop 0 = dktX1_mirror_0 := by decide +kernel
theorem dksX1_mirror_1 : cX1_mirror.data.toList.drop 21 = dktX1_mirror_1 := dk_seg dksX1_mirror_0 21 rfl rfl
theorem dksX1_mirror_2 : cX1_mirror.data.toList.drop 68 = dktX1_mirror_2 := dk_seg dksX1_mirror_1 47 rfl rfl
theorem dksX1_mirror_3 : cX1_mirror.data.toList.drop 90 = dktX1_mirror_3 := dk_seg dksX1_mirror_2 22 rfl rfl
theorem dksX1_mirror_4 : cX1_mirror.data.toList.drop 113 = dktX1_mirror_4 := dk_seg dksX1_mirror_3 23 rfl rfl
theorem dksX1_mirror_5 : cX1_mirror.data.toList.drop 137 = dktX1_mirror_5 := dk_seg dksX1_mirror_4 24 rfl rfl
theorem dX1_mirror_0 : decode cX1_mirror 0 = .ok (.aload_n 0, 1) := dk_42 (dk_at dksX1_mirror_0 0 rfl rfl)
theorem dX1_mirror_1 : decode cX1_mirror 1 = .ok (.iconst 1, 1) := dk_4 (dk_at dksX1_mirror_0 1 rfl rfl)
theorem dX1_mirror_2 : decode cX1_mirror 2 = .ok (.iload_n 1, 1) := dk_27 (dk_at dksX1_mirror_0 2 rfl rfl)
theorem dX1_mirror_3 : decode cX1_mirror 3 = .ok (.invokevirtual 258, 3) := dk_182 1 2 (dk_at dksX1_mirror_0 3 rfl rfl)
theorem dX1_mirror_6 : decode cX1_mirror 6 = .ok (.checkcast 53, 3) := dk_192 0 53 (dk_at dksX1_mirror_0 6 rfl rfl)
theorem dX1_mirror_9 : decode cX1_mirror 9 = .ok (.astore_n 3, 1) := dk_78 (dk_at dksX1_mirror_0 9 rfl rfl)
theorem dX1_mirror_10 : decode cX1_mirror 10 = .ok (.iload_n 2, 1) := dk_28 (dk_at dksX1_mirror_0 10 rfl rfl)
theorem dX1_mirror_11 : decode cX1_mirror 11 = .ok (.iconst 0, 1) := dk_3 (dk_at dksX1_mirror_0 11 rfl rfl)
theorem dX1_mirror_12 : decode cX1_mirror 12 = .ok (.bipush 8, 2) := dk_16 8 (dk_at dksX1_mirror_0 12 rfl rfl)
theorem dX1_mirror_14 : decode cX1_mirror 14 = .ok (.invokestatic 165, 3) := dk_184 0 165 (dk_at dksX1_mirror_0 14 rfl rfl)
theorem dX1_mirror_17 : decode cX1_mirror 17 = .ok (.invokestatic 169, 3) := dk_184 0 169 (dk_at dksX1_mirror_0 17 rfl rfl)
theorem dX1_mirror_20 : decode cX1_mirror 20 = .ok (.iload_n 2, 1) := dk_28 (dk_at dksX1_mirror_0 20 rfl rfl)
theorem dX1_mirror_21 : decode cX1_mirror 21 = .ok (.tableswitch 116 0 7 #[47, 55, 63, 68, 73, 78, 91, 96], 47) := by decide +kernel
theorem dX1_mirror_68 : decode cX1_mirror 68 = .ok (.aload_n 3, 1) := dk_45 (dk_at dksX1_mirror_2 0 rfl rfl)
theorem dX1_mirror_69 : decode cX1_mirror 69 = .ok (.getfield 262, 3) := dk_180 1 6 (dk_at dksX1_mirror_2 1 rfl rfl)
theorem dX1_mirror_72 : decode cX1_mirror 72 = .ok (.bipush 10, 2) := dk_16 10 (dk_at dksX1_mirror_2 4 rfl rfl)
theorem dX1_mirror_74 : decode cX1_mirror 74 = .ok (.irem, 1) := dk_112 (dk_at dksX1_mirror_2 6 rfl rfl)
theorem dX1_mirror_75 : decode cX1_mirror 75 = .ok (.ireturn, 1) := dk_172 (dk_at dksX1_mirror_2 7 rfl rfl)
theorem dX1_mirror_76 : decode cX1_mirror 76 = .ok (.aload_n 3, 1) := dk_45 (dk_at dksX1_mirror_2 8 rfl rfl)
theorem dX1_mirror_77 : decode cX1_mirror 77 = .ok (.getfield 262, 3) := dk_180 1 6 (dk_at dksX1_mirror_2 9 rfl rfl)
theorem dX1_mirror_80 : decode cX1_mirror 80 = .ok (.bipush 10, 2) := dk_16 10 (dk_at dksX1_mirror_2 12 rfl rfl)
theorem dX1_mirror_82 : decode cX1_mirror 82 = .ok (.idiv, 1) := dk_108 (dk_at dksX1_mirror_2 14 rfl rfl)
theorem dX1_mirror_83 : decode cX1_mirror 83 = .ok (.ireturn, 1) := dk_172 (dk_at dksX1_mirror_2 15 rfl rfl)
theorem dX1_mirror_84 : decode cX1_mirror 84 = .ok (.aload_n 3, 1) := dk_45 (dk_at dksX1_mirror_2 16 rfl rfl)
theorem dX1_mirror_85 : decode cX1_mirror 85 = .ok (.getfield 263, 3) := dk_180 1 7 (dk_at dksX1_mirror_2 17 rfl rfl)
theorem dX1_mirror_88 : decode cX1_mirror 88 = .ok (.ireturn, 1) := dk_172 (dk_at dksX1_mirror_2 20 rfl rfl)
theorem dX1_mirror_89 : decode cX1_mirror 89 = .ok (.aload_n 3, 1) := dk_45 (dk_at dksX1_mirror_2 21 rfl rfl)
theorem dX1_mirror_90 : decode cX1_mirror 90 = .ok (.getfield 266, 3) := dk_180 1 10 (dk_at dksX1_mirror_3 0 rfl rfl)
theorem dX1_mirror_93 : decode cX1_mirror 93 = .ok (.ireturn, 1) := dk_172 (dk_at dksX1_mirror_3 3 rfl rfl)
theorem dX1_mirror_94 : decode cX1_mirror 94 = .ok (.aload_n 3, 1) := dk_45 (dk_at dksX1_mirror_3 4 rfl rfl)
theorem dX1_mirror_95 : decode cX1_mirror 95 = .ok (.getfield 268, 3) := dk_180 1 12 (dk_at dksX1_mirror_3 5 rfl rfl)
theorem dX1_mirror_98 : decode cX1_mirror 98 = .ok (.ireturn, 1) := dk_172 (dk_at dksX1_mirror_3 8 rfl rfl)
theorem dX1_mirror_99 : decode cX1_mirror 99 = .ok (.aload_n 3, 1) := dk_45 (dk_at dksX1_mirror_3 9 rfl rfl)
theorem dX1_mirror_100 : decode cX1_mirror 100 = .ok (.getfield 269, 3) := dk_180 1 13 (dk_at dksX1_mirror_3 10 rfl rfl)
theorem dX1_mirror_103 : decode cX1_mirror 103 = .ok (.ifCond .eq 7, 3) := dk_153 0 7 (dk_at dksX1_mirror_3 13 rfl rfl)
theorem dX1_mirror_106 : decode cX1_mirror 106 = .ok (.iconst 1, 1) := dk_4 (dk_at dksX1_mirror_3 16 rfl rfl)
theorem dX1_mirror_107 : decode cX1_mirror 107 = .ok (.goto 4, 3) := dk_167 0 4 (dk_at dksX1_mirror_3 17 rfl rfl)
theorem dX1_mirror_110 : decode cX1_mirror 110 = .ok (.iconst 0, 1) := dk_3 (dk_at dksX1_mirror_3 20 rfl rfl)
theorem dX1_mirror_111 : decode cX1_mirror 111 = .ok (.ireturn, 1) := dk_172 (dk_at dksX1_mirror_3 21 rfl rfl)
theorem dX1_mirror_112 : decode cX1_mirror 112 = .ok (.aload_n 3, 1) := dk_45 (dk_at dksX1_mirror_3 22 rfl rfl)
theorem dX1_mirror_113 : decode cX1_mirror 113 = .ok (.getfield 273, 3) := dk_180 1 17 (dk_at dksX1_mirror_4 0 rfl rfl)
theorem dX1_mirror_116 : decode cX1_mirror 116 = .ok (.ireturn, 1) := dk_172 (dk_at dksX1_mirror_4 3 rfl rfl)
theorem dX1_mirror_117 : decode cX1_mirror 117 = .ok (.aload_n 0, 1) := dk_42 (dk_at dksX1_mirror_4 4 rfl rfl)
theorem dX1_mirror_118 : decode cX1_mirror 118 = .ok (.getfield 47, 3) := dk_180 0 47 (dk_at dksX1_mirror_4 5 rfl rfl)
theorem dX1_mirror_121 : decode cX1_mirror 121 = .ok (.aload_n 3, 1) := dk_45 (dk_at dksX1_mirror_4 8 rfl rfl)
theorem dX1_mirror_122 : decode cX1_mirror 122 = .ok (.getfield 262, 3) := dk_180 1 6 (dk_at dksX1_mirror_4 9 rfl rfl)
theorem dX1_mirror_125 : decode cX1_mirror 125 = .ok (.invokevirtual 199, 3) := dk_182 0 199 (dk_at dksX1_mirror_4 12 rfl rfl)
theorem dX1_mirror_128 : decode cX1_mirror 128 = .ok (.ifCond .ne 7, 3) := dk_154 0 7 (dk_at dksX1_mirror_4 15 rfl rfl)
theorem dX1_mirror_131 : decode cX1_mirror 131 = .ok (.iconst 1, 1) := dk_4 (dk_at dksX1_mirror_4 18 rfl rfl)
theorem dX1_mirror_132 : decode cX1_mirror 132 = .ok (.goto 4, 3) := dk_167 0 4 (dk_at dksX1_mirror_4 19 rfl rfl)
theorem dX1_mirror_135 : decode cX1_mirror 135 = .ok (.iconst 0, 1) := dk_3 (dk_at dksX1_mirror_4 22 rfl rfl)
theorem dX1_mirror_136 : decode cX1_mirror 136 = .ok (.ireturn, 1) := dk_172 (dk_at dksX1_mirror_4 23 rfl rfl)
theorem dX1_mirror_137 : decode cX1_mirror 137 = .ok (.aload_n 0, 1) := dk_42 (dk_at dksX1_mirror_5 0 rfl rfl)
theorem dX1_mirror_138 : decode cX1_mirror 138 = .ok (.aload_n 3, 1) := dk_45 (dk_at dksX1_mirror_5 1 rfl rfl)
theorem dX1_mirror_139 : decode cX1_mirror 139 = .ok (.getfield 262, 3) := dk_180 1 6 (dk_at dksX1_mirror_5 2 rfl rfl)
theorem dX1_mirror_142 : decode cX1_mirror 142 = .ok (.invokevirtual 276, 3) := dk_182 1 20 (dk_at dksX1_mirror_5 5 rfl rfl)
theorem dX1_mirror_145 : decode cX1_mirror 145 = .ok (.ireturn, 1) := dk_172 (dk_at dksX1_mirror_5 8 rfl rfl)
abbrev cX1_thing : ByteArray := prog_1_method_30_code
def yX1_thing : MethodName := ⟨RX1, "thing", "(ZI)LMirrorDoors$Cell;"⟩
def dkwX1_thing_1 : List UInt8 := [187, 0, 246, 89, 183, 0, 248, 191, 45, 28, 182, 0, 249, 192, 0, 51, 176]
abbrev dktX1_thing_1 : List UInt8 := dkwX1_thing_1 ++ []
def dkwX1_thing_0 : List UInt8 := [42, 180, 0, 47, 27, 182, 0, 131, 78, 28, 3, 45, 182, 0, 135, 4, 100, 184, 0, 165, 154, 0, 11]
abbrev dktX1_thing_0 : List UInt8 := dkwX1_thing_0 ++ dktX1_thing_1
theorem dksX1_thing_0 : cX1_thing.data.toList.drop 0 = dktX1_thing_0 := by decide +kernel
theorem dksX1_thing_1 : cX1_thing.data.toList.drop 23 = dktX1_thing_1 := dk_seg dksX1_thing_0 23 rfl rfl
theorem dX1_thing_0 : decode cX1_thing 0 = .ok (.aload_n 0, 1) := dk_42 (dk_at dksX1_thing_0 0 rfl rfl)
theorem dX1_thing_1 : decode cX1_thing 1 = .ok (.getfield 47, 3) := dk_180 0 47 (dk_at dksX1_thing_0 1 rfl rfl)
theorem dX1_thing_4 : decode cX1_thing 4 = .ok (.iload_n 1, 1) := dk_27 (dk_at dksX1_thing_0 4 rfl rfl)
theorem dX1_thing_5 : decode cX1_thing 5 = .ok (.invokevirtual 131, 3) := dk_182 0 131 (dk_at dksX1_thing_0 5 rfl rfl)
theorem dX1_thing_8 : decode cX1_thing 8 = .ok (.astore_n 3, 1) := dk_78 (dk_at dksX1_thing_0 8 rfl rfl)
theorem dX1_thing_9 : decode cX1_thing 9 = .ok (.iload_n 2, 1) := dk_28 (dk_at dksX1_thing_0 9 rfl rfl)
theorem dX1_thing_10 : decode cX1_thing 10 = .ok (.iconst 0, 1) := dk_3 (dk_at dksX1_thing_0 10 rfl rfl)
theorem dX1_thing_11 : decode cX1_thing 11 = .ok (.aload_n 3, 1) := dk_45 (dk_at dksX1_thing_0 11 rfl rfl)
theorem dX1_thing_12 : decode cX1_thing 12 = .ok (.invokevirtual 135, 3) := dk_182 0 135 (dk_at dksX1_thing_0 12 rfl rfl)
theorem dX1_thing_15 : decode cX1_thing 15 = .ok (.iconst 1, 1) := dk_4 (dk_at dksX1_thing_0 15 rfl rfl)
theorem dX1_thing_16 : decode cX1_thing 16 = .ok (.isub, 1) := dk_100 (dk_at dksX1_thing_0 16 rfl rfl)
theorem dX1_thing_17 : decode cX1_thing 17 = .ok (.invokestatic 165, 3) := dk_184 0 165 (dk_at dksX1_thing_0 17 rfl rfl)
theorem dX1_thing_20 : decode cX1_thing 20 = .ok (.ifCond .ne 11, 3) := dk_154 0 11 (dk_at dksX1_thing_0 20 rfl rfl)
theorem dX1_thing_23 : decode cX1_thing 23 = .ok (.new 246, 3) := dk_187 0 246 (dk_at dksX1_thing_1 0 rfl rfl)
theorem dX1_thing_26 : decode cX1_thing 26 = .ok (.dup, 1) := dk_89 (dk_at dksX1_thing_1 3 rfl rfl)
theorem dX1_thing_27 : decode cX1_thing 27 = .ok (.invokespecial 248, 3) := dk_183 0 248 (dk_at dksX1_thing_1 4 rfl rfl)
theorem dX1_thing_30 : decode cX1_thing 30 = .ok (.athrow, 1) := dk_191 (dk_at dksX1_thing_1 7 rfl rfl)
theorem dX1_thing_31 : decode cX1_thing 31 = .ok (.aload_n 3, 1) := dk_45 (dk_at dksX1_thing_1 8 rfl rfl)
theorem dX1_thing_32 : decode cX1_thing 32 = .ok (.iload_n 2, 1) := dk_28 (dk_at dksX1_thing_1 9 rfl rfl)
theorem dX1_thing_33 : decode cX1_thing 33 = .ok (.invokevirtual 249, 3) := dk_182 0 249 (dk_at dksX1_thing_1 10 rfl rfl)
theorem dX1_thing_36 : decode cX1_thing 36 = .ok (.checkcast 51, 3) := dk_192 0 51 (dk_at dksX1_thing_1 13 rfl rfl)
theorem dX1_thing_39 : decode cX1_thing 39 = .ok (.areturn, 1) := dk_176 (dk_at dksX1_thing_1 16 rfl rfl)
abbrev cX1_beamsAt : ByteArray := prog_1_method_31_code
def yX1_beamsAt : MethodName := ⟨RX1, "beamsAt", "(I)I"⟩
def dkwX1_beamsAt_0 : List UInt8 := [42, 180, 0, 47, 182, 0, 240, 27, 182, 0, 243, 184, 0, 253, 172]
abbrev dktX1_beamsAt_0 : List UInt8 := dkwX1_beamsAt_0 ++ []
theorem dksX1_beamsAt_0 : cX1_beamsAt.data.toList.drop 0 = dktX1_beamsAt_0 := by decide +kernel
theorem dX1_beamsAt_0 : decode cX1_beamsAt 0 = .ok (.aload_n 0, 1) := dk_42 (dk_at dksX1_beamsAt_0 0 rfl rfl)
theorem dX1_beamsAt_1 : decode cX1_beamsAt 1 = .ok (.getfield 47, 3) := dk_180 0 47 (dk_at dksX1_beamsAt_0 1 rfl rfl)
theorem dX1_beamsAt_4 : decode cX1_beamsAt 4 = .ok (.invokevirtual 240, 3) := dk_182 0 240 (dk_at dksX1_beamsAt_0 4 rfl rfl)
theorem dX1_beamsAt_7 : decode cX1_beamsAt 7 = .ok (.iload_n 1, 1) := dk_27 (dk_at dksX1_beamsAt_0 7 rfl rfl)
theorem dX1_beamsAt_8 : decode cX1_beamsAt 8 = .ok (.invokevirtual 243, 3) := dk_182 0 243 (dk_at dksX1_beamsAt_0 8 rfl rfl)
theorem dX1_beamsAt_11 : decode cX1_beamsAt 11 = .ok (.invokestatic 253, 3) := dk_184 0 253 (dk_at dksX1_beamsAt_0 11 rfl rfl)
theorem dX1_beamsAt_14 : decode cX1_beamsAt 14 = .ok (.ireturn, 1) := dk_172 (dk_at dksX1_beamsAt_0 14 rfl rfl)
abbrev cX1_door : ByteArray := prog_1_method_33_code
def yX1_door : MethodName := ⟨RX1, "door", "(II)I"⟩
def dkwX1_door_4 : List UInt8 := [167, 0, 4, 3, 172, 45, 180, 1, 28, 172]
abbrev dktX1_door_4 : List UInt8 := dkwX1_door_4 ++ []
def dkwX1_door_3 : List UInt8 := [182, 1, 25, 153, 0, 7, 4, 167, 0, 4, 3, 172, 42, 45, 180, 1, 23, 182, 1, 20, 158, 0, 7, 4]
abbrev dktX1_door_3 : List UInt8 := dkwX1_door_3 ++ dktX1_door_4
def dkwX1_door_2 : List UInt8 := [45, 180, 1, 23, 16, 10, 112, 172, 45, 180, 1, 23, 16, 10, 108, 172, 45, 180, 1, 24, 172, 45]
abbrev dktX1_door_2 : List UInt8 := dkwX1_door_2 ++ dktX1_door_3
def dkwX1_door_1 : List UInt8 := [170, 0, 0, 0, 0, 0, 0, 87, 0, 0, 0, 0, 0, 0, 0, 4, 0, 0, 0, 36, 0, 0, 0, 44, 0, 0, 0, 52, 0, 0, 0, 57, 0, 0, 0, 70]
abbrev dktX1_door_1 : List UInt8 := dkwX1_door_1 ++ dktX1_door_2
def dkwX1_door_0 : List UInt8 := [42, 3, 27, 182, 1, 2, 192, 0, 58, 78, 28, 3, 8, 184, 0, 165, 184, 0, 169, 28]
abbrev dktX1_door_0 : List UInt8 := dkwX1_door_0 ++ dktX1_door_1
theorem dksX1_door_0 : cX1_door.data.toList.drop 0 = dktX1_door_0 := by decide +kernel
theorem dksX1_door_1 : cX1_door.data.toList.drop 20 = dktX1_door_1 := dk_seg dksX1_door_0 20 rfl rfl
theorem dksX1_door_2 : cX1_door.data.toList.drop 56 = dktX1_door_2 := dk_seg dksX1_door_1 36 rfl rfl
theorem dksX1_door_3 : cX1_door.data.toList.drop 78 = dktX1_door_3 := dk_seg dksX1_door_2 22 rfl rfl
theorem dksX1_door_4 : cX1_door.data.toList.drop 102 = dktX1_door_4 := dk_seg dksX1_door_3 24 rfl rfl
theorem dX1_door_0 : decode cX1_door 0 = .ok (.aload_n 0, 1) := dk_42 (dk_at dksX1_door_0 0 rfl rfl)
theorem dX1_door_1 : decode cX1_door 1 = .ok (.iconst 0, 1) := dk_3 (dk_at dksX1_door_0 1 rfl rfl)
theorem dX1_door_2 : decode cX1_door 2 = .ok (.iload_n 1, 1) := dk_27 (dk_at dksX1_door_0 2 rfl rfl)
theorem dX1_door_3 : decode cX1_door 3 = .ok (.invokevirtual 258, 3) := dk_182 1 2 (dk_at dksX1_door_0 3 rfl rfl)
theorem dX1_door_6 : decode cX1_door 6 = .ok (.checkcast 58, 3) := dk_192 0 58 (dk_at dksX1_door_0 6 rfl rfl)
theorem dX1_door_9 : decode cX1_door 9 = .ok (.astore_n 3, 1) := dk_78 (dk_at dksX1_door_0 9 rfl rfl)
theorem dX1_door_10 : decode cX1_door 10 = .ok (.iload_n 2, 1) := dk_28 (dk_at dksX1_door_0 10 rfl rfl)
theorem dX1_door_11 : decode cX1_door 11 = .ok (.iconst 0, 1) := dk_3 (dk_at dksX1_door_0 11 rfl rfl)
theorem dX1_door_12 : decode cX1_door 12 = .ok (.iconst 5, 1) := dk_8 (dk_at dksX1_door_0 12 rfl rfl)
theorem dX1_door_13 : decode cX1_door 13 = .ok (.invokestatic 165, 3) := dk_184 0 165 (dk_at dksX1_door_0 13 rfl rfl)
theorem dX1_door_16 : decode cX1_door 16 = .ok (.invokestatic 169, 3) := dk_184 0 169 (dk_at dksX1_door_0 16 rfl rfl)
theorem dX1_door_19 : decode cX1_door 19 = .ok (.iload_n 2, 1) := dk_28 (dk_at dksX1_door_0 19 rfl rfl)
theorem dX1_door_20 : decode cX1_door 20 = .ok (.tableswitch 87 0 4 #[36, 44, 52, 57, 70], 36) := by decide +kernel
theorem dX1_door_56 : decode cX1_door 56 = .ok (.aload_n 3, 1) := dk_45 (dk_at dksX1_door_2 0 rfl rfl)
theorem dX1_door_57 : decode cX1_door 57 = .ok (.getfield 279, 3) := dk_180 1 23 (dk_at dksX1_door_2 1 rfl rfl)
theorem dX1_door_60 : decode cX1_door 60 = .ok (.bipush 10, 2) := dk_16 10 (dk_at dksX1_door_2 4 rfl rfl)
theorem dX1_door_62 : decode cX1_door 62 = .ok (.irem, 1) := dk_112 (dk_at dksX1_door_2 6 rfl rfl)
theorem dX1_door_63 : decode cX1_door 63 = .ok (.ireturn, 1) := dk_172 (dk_at dksX1_door_2 7 rfl rfl)
theorem dX1_door_64 : decode cX1_door 64 = .ok (.aload_n 3, 1) := dk_45 (dk_at dksX1_door_2 8 rfl rfl)
theorem dX1_door_65 : decode cX1_door 65 = .ok (.getfield 279, 3) := dk_180 1 23 (dk_at dksX1_door_2 9 rfl rfl)
theorem dX1_door_68 : decode cX1_door 68 = .ok (.bipush 10, 2) := dk_16 10 (dk_at dksX1_door_2 12 rfl rfl)
theorem dX1_door_70 : decode cX1_door 70 = .ok (.idiv, 1) := dk_108 (dk_at dksX1_door_2 14 rfl rfl)
theorem dX1_door_71 : decode cX1_door 71 = .ok (.ireturn, 1) := dk_172 (dk_at dksX1_door_2 15 rfl rfl)
theorem dX1_door_72 : decode cX1_door 72 = .ok (.aload_n 3, 1) := dk_45 (dk_at dksX1_door_2 16 rfl rfl)
theorem dX1_door_73 : decode cX1_door 73 = .ok (.getfield 280, 3) := dk_180 1 24 (dk_at dksX1_door_2 17 rfl rfl)
theorem dX1_door_76 : decode cX1_door 76 = .ok (.ireturn, 1) := dk_172 (dk_at dksX1_door_2 20 rfl rfl)
theorem dX1_door_77 : decode cX1_door 77 = .ok (.aload_n 3, 1) := dk_45 (dk_at dksX1_door_2 21 rfl rfl)
theorem dX1_door_78 : decode cX1_door 78 = .ok (.invokevirtual 281, 3) := dk_182 1 25 (dk_at dksX1_door_3 0 rfl rfl)
theorem dX1_door_81 : decode cX1_door 81 = .ok (.ifCond .eq 7, 3) := dk_153 0 7 (dk_at dksX1_door_3 3 rfl rfl)
theorem dX1_door_84 : decode cX1_door 84 = .ok (.iconst 1, 1) := dk_4 (dk_at dksX1_door_3 6 rfl rfl)
theorem dX1_door_85 : decode cX1_door 85 = .ok (.goto 4, 3) := dk_167 0 4 (dk_at dksX1_door_3 7 rfl rfl)
theorem dX1_door_88 : decode cX1_door 88 = .ok (.iconst 0, 1) := dk_3 (dk_at dksX1_door_3 10 rfl rfl)
theorem dX1_door_89 : decode cX1_door 89 = .ok (.ireturn, 1) := dk_172 (dk_at dksX1_door_3 11 rfl rfl)
theorem dX1_door_90 : decode cX1_door 90 = .ok (.aload_n 0, 1) := dk_42 (dk_at dksX1_door_3 12 rfl rfl)
theorem dX1_door_91 : decode cX1_door 91 = .ok (.aload_n 3, 1) := dk_45 (dk_at dksX1_door_3 13 rfl rfl)
theorem dX1_door_92 : decode cX1_door 92 = .ok (.getfield 279, 3) := dk_180 1 23 (dk_at dksX1_door_3 14 rfl rfl)
theorem dX1_door_95 : decode cX1_door 95 = .ok (.invokevirtual 276, 3) := dk_182 1 20 (dk_at dksX1_door_3 17 rfl rfl)
theorem dX1_door_98 : decode cX1_door 98 = .ok (.ifCond .le 7, 3) := dk_158 0 7 (dk_at dksX1_door_3 20 rfl rfl)
theorem dX1_door_101 : decode cX1_door 101 = .ok (.iconst 1, 1) := dk_4 (dk_at dksX1_door_3 23 rfl rfl)
theorem dX1_door_102 : decode cX1_door 102 = .ok (.goto 4, 3) := dk_167 0 4 (dk_at dksX1_door_4 0 rfl rfl)
theorem dX1_door_105 : decode cX1_door 105 = .ok (.iconst 0, 1) := dk_3 (dk_at dksX1_door_4 3 rfl rfl)
theorem dX1_door_106 : decode cX1_door 106 = .ok (.ireturn, 1) := dk_172 (dk_at dksX1_door_4 4 rfl rfl)
theorem dX1_door_107 : decode cX1_door 107 = .ok (.aload_n 3, 1) := dk_45 (dk_at dksX1_door_4 5 rfl rfl)
theorem dX1_door_108 : decode cX1_door 108 = .ok (.getfield 284, 3) := dk_180 1 28 (dk_at dksX1_door_4 6 rfl rfl)
theorem dX1_door_111 : decode cX1_door 111 = .ok (.ireturn, 1) := dk_172 (dk_at dksX1_door_4 9 rfl rfl)
abbrev cX1_ray : ByteArray := prog_1_method_35_code
def yX1_ray : MethodName := ⟨RX1, "ray", "(I)I"⟩
def dkwX1_ray_4 : List UInt8 := [180, 0, 13, 182, 1, 46, 172, 42, 180, 0, 13, 182, 1, 49, 172]
abbrev dktX1_ray_4 : List UInt8 := dkwX1_ray_4 ++ []
def dkwX1_ray_3 : List UInt8 := [42, 180, 0, 47, 182, 1, 39, 184, 0, 253, 172, 42, 3, 182, 1, 42, 172, 42, 4, 182, 1, 42, 172, 42]
abbrev dktX1_ray_3 : List UInt8 := dkwX1_ray_3 ++ dktX1_ray_4
def dkwX1_ray_2 : List UInt8 := [42, 180, 0, 13, 180, 1, 31, 172, 42, 180, 0, 13, 182, 1, 33, 172, 42, 180, 0, 13, 180, 1, 36, 172]
abbrev dktX1_ray_2 : List UInt8 := dkwX1_ray_2 ++ dktX1_ray_3
def dkwX1_ray_1 : List UInt8 := [170, 0, 0, 0, 96, 0, 0, 0, 0, 0, 0, 0, 6, 0, 0, 0, 41, 0, 0, 0, 49, 0, 0, 0, 57, 0, 0, 0, 65, 0, 0, 0, 76, 0, 0, 0, 82, 0, 0, 0, 88]
abbrev dktX1_ray_1 : List UInt8 := dkwX1_ray_1 ++ dktX1_ray_2
def dkwX1_ray_0 : List UInt8 := [27, 3, 16, 7, 184, 0, 165, 184, 0, 169, 42, 180, 0, 47, 182, 0, 240, 87, 27]
abbrev dktX1_ray_0 : List UInt8 := dkwX1_ray_0 ++ dktX1_ray_1
theorem dksX1_ray_0 : cX1_ray.data.toList.drop 0 = dktX1_ray_0 := by decide +kernel
theorem dksX1_ray_1 : cX1_ray.data.toList.drop 19 = dktX1_ray_1 := dk_seg dksX1_ray_0 19 rfl rfl
theorem dksX1_ray_2 : cX1_ray.data.toList.drop 60 = dktX1_ray_2 := dk_seg dksX1_ray_1 41 rfl rfl
theorem dksX1_ray_3 : cX1_ray.data.toList.drop 84 = dktX1_ray_3 := dk_seg dksX1_ray_2 24 rfl rfl
theorem dksX1_ray_4 : cX1_ray.data.toList.drop 108 = dktX1_ray_4 := dk_seg dksX1_ray_3 24 rfl rfl
theorem dX1_ray_0 : decode cX1_ray 0 = .ok (.iload_n 1, 1) := dk_27 (dk_at dksX1_ray_0 0 rfl rfl)
theorem dX1_ray_1 : decode cX1_ray 1 = .ok (.iconst 0, 1) := dk_3 (dk_at dksX1_ray_0 1 rfl rfl)
theorem dX1_ray_2 : decode cX1_ray 2 = .ok (.bipush 7, 2) := dk_16 7 (dk_at dksX1_ray_0 2 rfl rfl)
theorem dX1_ray_4 : decode cX1_ray 4 = .ok (.invokestatic 165, 3) := dk_184 0 165 (dk_at dksX1_ray_0 4 rfl rfl)
theorem dX1_ray_7 : decode cX1_ray 7 = .ok (.invokestatic 169, 3) := dk_184 0 169 (dk_at dksX1_ray_0 7 rfl rfl)
theorem dX1_ray_10 : decode cX1_ray 10 = .ok (.aload_n 0, 1) := dk_42 (dk_at dksX1_ray_0 10 rfl rfl)
theorem dX1_ray_11 : decode cX1_ray 11 = .ok (.getfield 47, 3) := dk_180 0 47 (dk_at dksX1_ray_0 11 rfl rfl)
theorem dX1_ray_14 : decode cX1_ray 14 = .ok (.invokevirtual 240, 3) := dk_182 0 240 (dk_at dksX1_ray_0 14 rfl rfl)
theorem dX1_ray_17 : decode cX1_ray 17 = .ok (.pop, 1) := dk_87 (dk_at dksX1_ray_0 17 rfl rfl)
theorem dX1_ray_18 : decode cX1_ray 18 = .ok (.iload_n 1, 1) := dk_27 (dk_at dksX1_ray_0 18 rfl rfl)
theorem dX1_ray_19 : decode cX1_ray 19 = .ok (.tableswitch 96 0 6 #[41, 49, 57, 65, 76, 82, 88], 41) := by decide +kernel
theorem dX1_ray_60 : decode cX1_ray 60 = .ok (.aload_n 0, 1) := dk_42 (dk_at dksX1_ray_2 0 rfl rfl)
theorem dX1_ray_61 : decode cX1_ray 61 = .ok (.getfield 13, 3) := dk_180 0 13 (dk_at dksX1_ray_2 1 rfl rfl)
theorem dX1_ray_64 : decode cX1_ray 64 = .ok (.getfield 287, 3) := dk_180 1 31 (dk_at dksX1_ray_2 4 rfl rfl)
theorem dX1_ray_67 : decode cX1_ray 67 = .ok (.ireturn, 1) := dk_172 (dk_at dksX1_ray_2 7 rfl rfl)
theorem dX1_ray_68 : decode cX1_ray 68 = .ok (.aload_n 0, 1) := dk_42 (dk_at dksX1_ray_2 8 rfl rfl)
theorem dX1_ray_69 : decode cX1_ray 69 = .ok (.getfield 13, 3) := dk_180 0 13 (dk_at dksX1_ray_2 9 rfl rfl)
theorem dX1_ray_72 : decode cX1_ray 72 = .ok (.invokevirtual 289, 3) := dk_182 1 33 (dk_at dksX1_ray_2 12 rfl rfl)
theorem dX1_ray_75 : decode cX1_ray 75 = .ok (.ireturn, 1) := dk_172 (dk_at dksX1_ray_2 15 rfl rfl)
theorem dX1_ray_76 : decode cX1_ray 76 = .ok (.aload_n 0, 1) := dk_42 (dk_at dksX1_ray_2 16 rfl rfl)
theorem dX1_ray_77 : decode cX1_ray 77 = .ok (.getfield 13, 3) := dk_180 0 13 (dk_at dksX1_ray_2 17 rfl rfl)
theorem dX1_ray_80 : decode cX1_ray 80 = .ok (.getfield 292, 3) := dk_180 1 36 (dk_at dksX1_ray_2 20 rfl rfl)
theorem dX1_ray_83 : decode cX1_ray 83 = .ok (.ireturn, 1) := dk_172 (dk_at dksX1_ray_2 23 rfl rfl)
theorem dX1_ray_84 : decode cX1_ray 84 = .ok (.aload_n 0, 1) := dk_42 (dk_at dksX1_ray_3 0 rfl rfl)
theorem dX1_ray_85 : decode cX1_ray 85 = .ok (.getfield 47, 3) := dk_180 0 47 (dk_at dksX1_ray_3 1 rfl rfl)
theorem dX1_ray_88 : decode cX1_ray 88 = .ok (.invokevirtual 295, 3) := dk_182 1 39 (dk_at dksX1_ray_3 4 rfl rfl)
theorem dX1_ray_91 : decode cX1_ray 91 = .ok (.invokestatic 253, 3) := dk_184 0 253 (dk_at dksX1_ray_3 7 rfl rfl)
theorem dX1_ray_94 : decode cX1_ray 94 = .ok (.ireturn, 1) := dk_172 (dk_at dksX1_ray_3 10 rfl rfl)
theorem dX1_ray_95 : decode cX1_ray 95 = .ok (.aload_n 0, 1) := dk_42 (dk_at dksX1_ray_3 11 rfl rfl)
theorem dX1_ray_96 : decode cX1_ray 96 = .ok (.iconst 0, 1) := dk_3 (dk_at dksX1_ray_3 12 rfl rfl)
theorem dX1_ray_97 : decode cX1_ray 97 = .ok (.invokevirtual 298, 3) := dk_182 1 42 (dk_at dksX1_ray_3 13 rfl rfl)
theorem dX1_ray_100 : decode cX1_ray 100 = .ok (.ireturn, 1) := dk_172 (dk_at dksX1_ray_3 16 rfl rfl)
theorem dX1_ray_101 : decode cX1_ray 101 = .ok (.aload_n 0, 1) := dk_42 (dk_at dksX1_ray_3 17 rfl rfl)
theorem dX1_ray_102 : decode cX1_ray 102 = .ok (.iconst 1, 1) := dk_4 (dk_at dksX1_ray_3 18 rfl rfl)
theorem dX1_ray_103 : decode cX1_ray 103 = .ok (.invokevirtual 298, 3) := dk_182 1 42 (dk_at dksX1_ray_3 19 rfl rfl)
theorem dX1_ray_106 : decode cX1_ray 106 = .ok (.ireturn, 1) := dk_172 (dk_at dksX1_ray_3 22 rfl rfl)
theorem dX1_ray_107 : decode cX1_ray 107 = .ok (.aload_n 0, 1) := dk_42 (dk_at dksX1_ray_3 23 rfl rfl)
theorem dX1_ray_108 : decode cX1_ray 108 = .ok (.getfield 13, 3) := dk_180 0 13 (dk_at dksX1_ray_4 0 rfl rfl)
theorem dX1_ray_111 : decode cX1_ray 111 = .ok (.invokevirtual 302, 3) := dk_182 1 46 (dk_at dksX1_ray_4 3 rfl rfl)
theorem dX1_ray_114 : decode cX1_ray 114 = .ok (.ireturn, 1) := dk_172 (dk_at dksX1_ray_4 6 rfl rfl)
theorem dX1_ray_115 : decode cX1_ray 115 = .ok (.aload_n 0, 1) := dk_42 (dk_at dksX1_ray_4 7 rfl rfl)
theorem dX1_ray_116 : decode cX1_ray 116 = .ok (.getfield 13, 3) := dk_180 0 13 (dk_at dksX1_ray_4 8 rfl rfl)
theorem dX1_ray_119 : decode cX1_ray 119 = .ok (.invokevirtual 305, 3) := dk_182 1 49 (dk_at dksX1_ray_4 11 rfl rfl)
theorem dX1_ray_122 : decode cX1_ray 122 = .ok (.ireturn, 1) := dk_172 (dk_at dksX1_ray_4 14 rfl rfl)
abbrev cX1_beam : ByteArray := prog_1_method_36_code
def yX1_beam : MethodName := ⟨RX1, "beam", "(II)I"⟩
def dkwX1_beam_5 : List UInt8 := [182, 1, 56, 153, 0, 7, 4, 167, 0, 4, 3, 172, 42, 180, 0, 13, 29, 182, 1, 59, 172]
abbrev dktX1_beam_5 : List UInt8 := dkwX1_beam_5 ++ []
def dkwX1_beam_4 : List UInt8 := [29, 7, 108, 16, 10, 112, 172, 29, 7, 108, 16, 10, 108, 172, 29, 7, 112, 172, 42, 180, 0, 13, 27]
abbrev dktX1_beam_4 : List UInt8 := dkwX1_beam_4 ++ dktX1_beam_5
def dkwX1_beam_3 : List UInt8 := [170, 0, 0, 0, 0, 0, 66, 0, 0, 0, 0, 0, 0, 0, 3, 0, 0, 0, 31, 0, 0, 0, 38, 0, 0, 0, 45, 0, 0, 0, 49]
abbrev dktX1_beam_3 : List UInt8 := dkwX1_beam_3 ++ dktX1_beam_4
def dkwX1_beam_2 : List UInt8 := [180, 1, 52, 27, 46, 62, 28]
abbrev dktX1_beam_2 : List UInt8 := dkwX1_beam_2 ++ dktX1_beam_3
def dkwX1_beam_1 : List UInt8 := [154, 0, 11, 187, 0, 246, 89, 183, 0, 248, 191, 28, 3, 7, 184, 0, 165, 184, 0, 169, 42, 180, 0, 13]
abbrev dktX1_beam_1 : List UInt8 := dkwX1_beam_1 ++ dktX1_beam_2
def dkwX1_beam_0 : List UInt8 := [42, 180, 0, 47, 182, 0, 240, 87, 27, 3, 42, 180, 0, 13, 180, 1, 31, 4, 100, 184, 0, 165]
abbrev dktX1_beam_0 : List UInt8 := dkwX1_beam_0 ++ dktX1_beam_1
theorem dksX1_beam_0 : cX1_beam.data.toList.drop 0 = dktX1_beam_0 := by decide +kernel
theorem dksX1_beam_1 : cX1_beam.data.toList.drop 22 = dktX1_beam_1 := dk_seg dksX1_beam_0 22 rfl rfl
theorem dksX1_beam_2 : cX1_beam.data.toList.drop 46 = dktX1_beam_2 := dk_seg dksX1_beam_1 24 rfl rfl
theorem dksX1_beam_3 : cX1_beam.data.toList.drop 53 = dktX1_beam_3 := dk_seg dksX1_beam_2 7 rfl rfl
theorem dksX1_beam_4 : cX1_beam.data.toList.drop 84 = dktX1_beam_4 := dk_seg dksX1_beam_3 31 rfl rfl
theorem dksX1_beam_5 : cX1_beam.data.toList.drop 107 = dktX1_beam_5 := dk_seg dksX1_beam_4 23 rfl rfl
theorem dX1_beam_0 : decode cX1_beam 0 = .ok (.aload_n 0, 1) := dk_42 (dk_at dksX1_beam_0 0 rfl rfl)
theorem dX1_beam_1 : decode cX1_beam 1 = .ok (.getfield 47, 3) := dk_180 0 47 (dk_at dksX1_beam_0 1 rfl rfl)
theorem dX1_beam_4 : decode cX1_beam 4 = .ok (.invokevirtual 240, 3) := dk_182 0 240 (dk_at dksX1_beam_0 4 rfl rfl)
theorem dX1_beam_7 : decode cX1_beam 7 = .ok (.pop, 1) := dk_87 (dk_at dksX1_beam_0 7 rfl rfl)
theorem dX1_beam_8 : decode cX1_beam 8 = .ok (.iload_n 1, 1) := dk_27 (dk_at dksX1_beam_0 8 rfl rfl)
theorem dX1_beam_9 : decode cX1_beam 9 = .ok (.iconst 0, 1) := dk_3 (dk_at dksX1_beam_0 9 rfl rfl)
theorem dX1_beam_10 : decode cX1_beam 10 = .ok (.aload_n 0, 1) := dk_42 (dk_at dksX1_beam_0 10 rfl rfl)
theorem dX1_beam_11 : decode cX1_beam 11 = .ok (.getfield 13, 3) := dk_180 0 13 (dk_at dksX1_beam_0 11 rfl rfl)
theorem dX1_beam_14 : decode cX1_beam 14 = .ok (.getfield 287, 3) := dk_180 1 31 (dk_at dksX1_beam_0 14 rfl rfl)
theorem dX1_beam_17 : decode cX1_beam 17 = .ok (.iconst 1, 1) := dk_4 (dk_at dksX1_beam_0 17 rfl rfl)
theorem dX1_beam_18 : decode cX1_beam 18 = .ok (.isub, 1) := dk_100 (dk_at dksX1_beam_0 18 rfl rfl)
theorem dX1_beam_19 : decode cX1_beam 19 = .ok (.invokestatic 165, 3) := dk_184 0 165 (dk_at dksX1_beam_0 19 rfl rfl)
theorem dX1_beam_22 : decode cX1_beam 22 = .ok (.ifCond .ne 11, 3) := dk_154 0 11 (dk_at dksX1_beam_1 0 rfl rfl)
theorem dX1_beam_25 : decode cX1_beam 25 = .ok (.new 246, 3) := dk_187 0 246 (dk_at dksX1_beam_1 3 rfl rfl)
theorem dX1_beam_28 : decode cX1_beam 28 = .ok (.dup, 1) := dk_89 (dk_at dksX1_beam_1 6 rfl rfl)
theorem dX1_beam_29 : decode cX1_beam 29 = .ok (.invokespecial 248, 3) := dk_183 0 248 (dk_at dksX1_beam_1 7 rfl rfl)
theorem dX1_beam_32 : decode cX1_beam 32 = .ok (.athrow, 1) := dk_191 (dk_at dksX1_beam_1 10 rfl rfl)
theorem dX1_beam_33 : decode cX1_beam 33 = .ok (.iload_n 2, 1) := dk_28 (dk_at dksX1_beam_1 11 rfl rfl)
theorem dX1_beam_34 : decode cX1_beam 34 = .ok (.iconst 0, 1) := dk_3 (dk_at dksX1_beam_1 12 rfl rfl)
theorem dX1_beam_35 : decode cX1_beam 35 = .ok (.iconst 4, 1) := dk_7 (dk_at dksX1_beam_1 13 rfl rfl)
theorem dX1_beam_36 : decode cX1_beam 36 = .ok (.invokestatic 165, 3) := dk_184 0 165 (dk_at dksX1_beam_1 14 rfl rfl)
theorem dX1_beam_39 : decode cX1_beam 39 = .ok (.invokestatic 169, 3) := dk_184 0 169 (dk_at dksX1_beam_1 17 rfl rfl)
theorem dX1_beam_42 : decode cX1_beam 42 = .ok (.aload_n 0, 1) := dk_42 (dk_at dksX1_beam_1 20 rfl rfl)
theorem dX1_beam_43 : decode cX1_beam 43 = .ok (.getfield 13, 3) := dk_180 0 13 (dk_at dksX1_beam_1 21 rfl rfl)
theorem dX1_beam_46 : decode cX1_beam 46 = .ok (.getfield 308, 3) := dk_180 1 52 (dk_at dksX1_beam_2 0 rfl rfl)
theorem dX1_beam_49 : decode cX1_beam 49 = .ok (.iload_n 1, 1) := dk_27 (dk_at dksX1_beam_2 3 rfl rfl)
theorem dX1_beam_50 : decode cX1_beam 50 = .ok (.iaload, 1) := dk_46 (dk_at dksX1_beam_2 4 rfl rfl)
theorem dX1_beam_51 : decode cX1_beam 51 = .ok (.istore_n 3, 1) := dk_62 (dk_at dksX1_beam_2 5 rfl rfl)
theorem dX1_beam_52 : decode cX1_beam 52 = .ok (.iload_n 2, 1) := dk_28 (dk_at dksX1_beam_2 6 rfl rfl)
theorem dX1_beam_53 : decode cX1_beam 53 = .ok (.tableswitch 66 0 3 #[31, 38, 45, 49], 31) := by decide +kernel
theorem dX1_beam_84 : decode cX1_beam 84 = .ok (.iload_n 3, 1) := dk_29 (dk_at dksX1_beam_4 0 rfl rfl)
theorem dX1_beam_85 : decode cX1_beam 85 = .ok (.iconst 4, 1) := dk_7 (dk_at dksX1_beam_4 1 rfl rfl)
theorem dX1_beam_86 : decode cX1_beam 86 = .ok (.idiv, 1) := dk_108 (dk_at dksX1_beam_4 2 rfl rfl)
theorem dX1_beam_87 : decode cX1_beam 87 = .ok (.bipush 10, 2) := dk_16 10 (dk_at dksX1_beam_4 3 rfl rfl)
theorem dX1_beam_89 : decode cX1_beam 89 = .ok (.irem, 1) := dk_112 (dk_at dksX1_beam_4 5 rfl rfl)
theorem dX1_beam_90 : decode cX1_beam 90 = .ok (.ireturn, 1) := dk_172 (dk_at dksX1_beam_4 6 rfl rfl)
theorem dX1_beam_91 : decode cX1_beam 91 = .ok (.iload_n 3, 1) := dk_29 (dk_at dksX1_beam_4 7 rfl rfl)
theorem dX1_beam_92 : decode cX1_beam 92 = .ok (.iconst 4, 1) := dk_7 (dk_at dksX1_beam_4 8 rfl rfl)
theorem dX1_beam_93 : decode cX1_beam 93 = .ok (.idiv, 1) := dk_108 (dk_at dksX1_beam_4 9 rfl rfl)
theorem dX1_beam_94 : decode cX1_beam 94 = .ok (.bipush 10, 2) := dk_16 10 (dk_at dksX1_beam_4 10 rfl rfl)
theorem dX1_beam_96 : decode cX1_beam 96 = .ok (.idiv, 1) := dk_108 (dk_at dksX1_beam_4 12 rfl rfl)
theorem dX1_beam_97 : decode cX1_beam 97 = .ok (.ireturn, 1) := dk_172 (dk_at dksX1_beam_4 13 rfl rfl)
theorem dX1_beam_98 : decode cX1_beam 98 = .ok (.iload_n 3, 1) := dk_29 (dk_at dksX1_beam_4 14 rfl rfl)
theorem dX1_beam_99 : decode cX1_beam 99 = .ok (.iconst 4, 1) := dk_7 (dk_at dksX1_beam_4 15 rfl rfl)
theorem dX1_beam_100 : decode cX1_beam 100 = .ok (.irem, 1) := dk_112 (dk_at dksX1_beam_4 16 rfl rfl)
theorem dX1_beam_101 : decode cX1_beam 101 = .ok (.ireturn, 1) := dk_172 (dk_at dksX1_beam_4 17 rfl rfl)
theorem dX1_beam_102 : decode cX1_beam 102 = .ok (.aload_n 0, 1) := dk_42 (dk_at dksX1_beam_4 18 rfl rfl)
theorem dX1_beam_103 : decode cX1_beam 103 = .ok (.getfield 13, 3) := dk_180 0 13 (dk_at dksX1_beam_4 19 rfl rfl)
theorem dX1_beam_106 : decode cX1_beam 106 = .ok (.iload_n 1, 1) := dk_27 (dk_at dksX1_beam_4 22 rfl rfl)
theorem dX1_beam_107 : decode cX1_beam 107 = .ok (.invokevirtual 312, 3) := dk_182 1 56 (dk_at dksX1_beam_5 0 rfl rfl)
theorem dX1_beam_110 : decode cX1_beam 110 = .ok (.ifCond .eq 7, 3) := dk_153 0 7 (dk_at dksX1_beam_5 3 rfl rfl)
theorem dX1_beam_113 : decode cX1_beam 113 = .ok (.iconst 1, 1) := dk_4 (dk_at dksX1_beam_5 6 rfl rfl)
theorem dX1_beam_114 : decode cX1_beam 114 = .ok (.goto 4, 3) := dk_167 0 4 (dk_at dksX1_beam_5 7 rfl rfl)
theorem dX1_beam_117 : decode cX1_beam 117 = .ok (.iconst 0, 1) := dk_3 (dk_at dksX1_beam_5 10 rfl rfl)
theorem dX1_beam_118 : decode cX1_beam 118 = .ok (.ireturn, 1) := dk_172 (dk_at dksX1_beam_5 11 rfl rfl)
theorem dX1_beam_119 : decode cX1_beam 119 = .ok (.aload_n 0, 1) := dk_42 (dk_at dksX1_beam_5 12 rfl rfl)
theorem dX1_beam_120 : decode cX1_beam 120 = .ok (.getfield 13, 3) := dk_180 0 13 (dk_at dksX1_beam_5 13 rfl rfl)
theorem dX1_beam_123 : decode cX1_beam 123 = .ok (.iload_n 3, 1) := dk_29 (dk_at dksX1_beam_5 16 rfl rfl)
theorem dX1_beam_124 : decode cX1_beam 124 = .ok (.invokevirtual 315, 3) := dk_182 1 59 (dk_at dksX1_beam_5 17 rfl rfl)
theorem dX1_beam_127 : decode cX1_beam 127 = .ok (.ireturn, 1) := dk_172 (dk_at dksX1_beam_5 20 rfl rfl)
abbrev cX1_stepsTo : ByteArray := prog_1_method_37_code
def yX1_stepsTo : MethodName := ⟨RX1, "stepsTo", "(I)I"⟩
def dkwX1_stepsTo_0 : List UInt8 := [42, 3, 27, 182, 1, 2, 77, 42, 180, 0, 47, 182, 0, 240, 44, 180, 0, 78, 182, 1, 62, 172]
abbrev dktX1_stepsTo_0 : List UInt8 := dkwX1_stepsTo_0 ++ []
theorem dksX1_stepsTo_0 : cX1_stepsTo.data.toList.drop 0 = dktX1_stepsTo_0 := by decide +kernel
theorem dX1_stepsTo_0 : decode cX1_stepsTo 0 = .ok (.aload_n 0, 1) := dk_42 (dk_at dksX1_stepsTo_0 0 rfl rfl)
theorem dX1_stepsTo_1 : decode cX1_stepsTo 1 = .ok (.iconst 0, 1) := dk_3 (dk_at dksX1_stepsTo_0 1 rfl rfl)
theorem dX1_stepsTo_2 : decode cX1_stepsTo 2 = .ok (.iload_n 1, 1) := dk_27 (dk_at dksX1_stepsTo_0 2 rfl rfl)
theorem dX1_stepsTo_3 : decode cX1_stepsTo 3 = .ok (.invokevirtual 258, 3) := dk_182 1 2 (dk_at dksX1_stepsTo_0 3 rfl rfl)
theorem dX1_stepsTo_6 : decode cX1_stepsTo 6 = .ok (.astore_n 2, 1) := dk_77 (dk_at dksX1_stepsTo_0 6 rfl rfl)
theorem dX1_stepsTo_7 : decode cX1_stepsTo 7 = .ok (.aload_n 0, 1) := dk_42 (dk_at dksX1_stepsTo_0 7 rfl rfl)
theorem dX1_stepsTo_8 : decode cX1_stepsTo 8 = .ok (.getfield 47, 3) := dk_180 0 47 (dk_at dksX1_stepsTo_0 8 rfl rfl)
theorem dX1_stepsTo_11 : decode cX1_stepsTo 11 = .ok (.invokevirtual 240, 3) := dk_182 0 240 (dk_at dksX1_stepsTo_0 11 rfl rfl)
theorem dX1_stepsTo_14 : decode cX1_stepsTo 14 = .ok (.aload_n 2, 1) := dk_44 (dk_at dksX1_stepsTo_0 14 rfl rfl)
theorem dX1_stepsTo_15 : decode cX1_stepsTo 15 = .ok (.getfield 78, 3) := dk_180 0 78 (dk_at dksX1_stepsTo_0 15 rfl rfl)
theorem dX1_stepsTo_18 : decode cX1_stepsTo 18 = .ok (.invokevirtual 318, 3) := dk_182 1 62 (dk_at dksX1_stepsTo_0 18 rfl rfl)
theorem dX1_stepsTo_21 : decode cX1_stepsTo 21 = .ok (.ireturn, 1) := dk_172 (dk_at dksX1_stepsTo_0 21 rfl rfl)
abbrev cX1_whyNot : ByteArray := prog_1_method_38_code
def yX1_whyNot : MethodName := ⟨RX1, "whyNot", "(III)I"⟩
def dkwX1_whyNot_5 : List UInt8 := [167, 0, 15, 25, 6, 192, 0, 53, 180, 1, 12, 167, 0, 4, 2, 172]
abbrev dktX1_whyNot_5 : List UInt8 := dkwX1_whyNot_5 ++ []
def dkwX1_whyNot_4 : List UInt8 := [42, 180, 0, 47, 182, 0, 231, 167, 0, 31, 25, 6, 182, 0, 107, 167, 0, 23, 25, 6, 182, 0, 237]
abbrev dktX1_whyNot_4 : List UInt8 := dkwX1_whyNot_4 ++ dktX1_whyNot_5
def dkwX1_whyNot_3 : List UInt8 := [170, 0, 0, 0, 0, 0, 68, 0, 0, 0, 6, 0, 0, 0, 9, 0, 0, 0, 31, 0, 0, 0, 41, 0, 0, 0, 49, 0, 0, 0, 57]
abbrev dktX1_whyNot_3 : List UInt8 := dkwX1_whyNot_3 ++ dktX1_whyNot_4
def dkwX1_whyNot_2 : List UInt8 := [21, 5]
abbrev dktX1_whyNot_2 : List UInt8 := dkwX1_whyNot_2 ++ dktX1_whyNot_3
def dkwX1_whyNot_1 : List UInt8 := [182, 0, 199, 54, 5, 29, 154, 0, 6, 21, 5, 172, 42, 180, 0, 47, 180, 0, 74, 21, 4, 50, 58, 6]
abbrev dktX1_whyNot_1 : List UInt8 := dkwX1_whyNot_1 ++ dktX1_whyNot_2
def dkwX1_whyNot_0 : List UInt8 := [42, 27, 28, 182, 0, 146, 54, 4, 29, 3, 4, 184, 0, 165, 184, 0, 169, 42, 180, 0, 47, 21, 4]
abbrev dktX1_whyNot_0 : List UInt8 := dkwX1_whyNot_0 ++ dktX1_whyNot_1
theorem dksX1_whyNot_0 : cX1_whyNot.data.toList.drop 0 = dktX1_whyNot_0 := by decide +kernel
theorem dksX1_whyNot_1 : cX1_whyNot.data.toList.drop 23 = dktX1_whyNot_1 := dk_seg dksX1_whyNot_0 23 rfl rfl
theorem dksX1_whyNot_2 : cX1_whyNot.data.toList.drop 47 = dktX1_whyNot_2 := dk_seg dksX1_whyNot_1 24 rfl rfl
theorem dksX1_whyNot_3 : cX1_whyNot.data.toList.drop 49 = dktX1_whyNot_3 := dk_seg dksX1_whyNot_2 2 rfl rfl
theorem dksX1_whyNot_4 : cX1_whyNot.data.toList.drop 80 = dktX1_whyNot_4 := dk_seg dksX1_whyNot_3 31 rfl rfl
theorem dksX1_whyNot_5 : cX1_whyNot.data.toList.drop 103 = dktX1_whyNot_5 := dk_seg dksX1_whyNot_4 23 rfl rfl
theorem dX1_whyNot_0 : decode cX1_whyNot 0 = .ok (.aload_n 0, 1) := dk_42 (dk_at dksX1_whyNot_0 0 rfl rfl)
theorem dX1_whyNot_1 : decode cX1_whyNot 1 = .ok (.iload_n 1, 1) := dk_27 (dk_at dksX1_whyNot_0 1 rfl rfl)
theorem dX1_whyNot_2 : decode cX1_whyNot 2 = .ok (.iload_n 2, 1) := dk_28 (dk_at dksX1_whyNot_0 2 rfl rfl)
theorem dX1_whyNot_3 : decode cX1_whyNot 3 = .ok (.invokevirtual 146, 3) := dk_182 0 146 (dk_at dksX1_whyNot_0 3 rfl rfl)
theorem dX1_whyNot_6 : decode cX1_whyNot 6 = .ok (.istore 4, 2) := dk_54 4 (dk_at dksX1_whyNot_0 6 rfl rfl)
theorem dX1_whyNot_8 : decode cX1_whyNot 8 = .ok (.iload_n 3, 1) := dk_29 (dk_at dksX1_whyNot_0 8 rfl rfl)
theorem dX1_whyNot_9 : decode cX1_whyNot 9 = .ok (.iconst 0, 1) := dk_3 (dk_at dksX1_whyNot_0 9 rfl rfl)
theorem dX1_whyNot_10 : decode cX1_whyNot 10 = .ok (.iconst 1, 1) := dk_4 (dk_at dksX1_whyNot_0 10 rfl rfl)
theorem dX1_whyNot_11 : decode cX1_whyNot 11 = .ok (.invokestatic 165, 3) := dk_184 0 165 (dk_at dksX1_whyNot_0 11 rfl rfl)
theorem dX1_whyNot_14 : decode cX1_whyNot 14 = .ok (.invokestatic 169, 3) := dk_184 0 169 (dk_at dksX1_whyNot_0 14 rfl rfl)
theorem dX1_whyNot_17 : decode cX1_whyNot 17 = .ok (.aload_n 0, 1) := dk_42 (dk_at dksX1_whyNot_0 17 rfl rfl)
theorem dX1_whyNot_18 : decode cX1_whyNot 18 = .ok (.getfield 47, 3) := dk_180 0 47 (dk_at dksX1_whyNot_0 18 rfl rfl)
theorem dX1_whyNot_21 : decode cX1_whyNot 21 = .ok (.iload 4, 2) := dk_21 4 (dk_at dksX1_whyNot_0 21 rfl rfl)
theorem dX1_whyNot_23 : decode cX1_whyNot 23 = .ok (.invokevirtual 199, 3) := dk_182 0 199 (dk_at dksX1_whyNot_1 0 rfl rfl)
theorem dX1_whyNot_26 : decode cX1_whyNot 26 = .ok (.istore 5, 2) := dk_54 5 (dk_at dksX1_whyNot_1 3 rfl rfl)
theorem dX1_whyNot_28 : decode cX1_whyNot 28 = .ok (.iload_n 3, 1) := dk_29 (dk_at dksX1_whyNot_1 5 rfl rfl)
theorem dX1_whyNot_29 : decode cX1_whyNot 29 = .ok (.ifCond .ne 6, 3) := dk_154 0 6 (dk_at dksX1_whyNot_1 6 rfl rfl)
theorem dX1_whyNot_32 : decode cX1_whyNot 32 = .ok (.iload 5, 2) := dk_21 5 (dk_at dksX1_whyNot_1 9 rfl rfl)
theorem dX1_whyNot_34 : decode cX1_whyNot 34 = .ok (.ireturn, 1) := dk_172 (dk_at dksX1_whyNot_1 11 rfl rfl)
theorem dX1_whyNot_35 : decode cX1_whyNot 35 = .ok (.aload_n 0, 1) := dk_42 (dk_at dksX1_whyNot_1 12 rfl rfl)
theorem dX1_whyNot_36 : decode cX1_whyNot 36 = .ok (.getfield 47, 3) := dk_180 0 47 (dk_at dksX1_whyNot_1 13 rfl rfl)
theorem dX1_whyNot_39 : decode cX1_whyNot 39 = .ok (.getfield 74, 3) := dk_180 0 74 (dk_at dksX1_whyNot_1 16 rfl rfl)
theorem dX1_whyNot_42 : decode cX1_whyNot 42 = .ok (.iload 4, 2) := dk_21 4 (dk_at dksX1_whyNot_1 19 rfl rfl)
theorem dX1_whyNot_44 : decode cX1_whyNot 44 = .ok (.aaload, 1) := dk_50 (dk_at dksX1_whyNot_1 21 rfl rfl)
theorem dX1_whyNot_45 : decode cX1_whyNot 45 = .ok (.astore 6, 2) := dk_58 6 (dk_at dksX1_whyNot_1 22 rfl rfl)
theorem dX1_whyNot_47 : decode cX1_whyNot 47 = .ok (.iload 5, 2) := dk_21 5 (dk_at dksX1_whyNot_2 0 rfl rfl)
theorem dX1_whyNot_49 : decode cX1_whyNot 49 = .ok (.tableswitch 68 6 9 #[31, 41, 49, 57], 31) := by decide +kernel
theorem dX1_whyNot_80 : decode cX1_whyNot 80 = .ok (.aload_n 0, 1) := dk_42 (dk_at dksX1_whyNot_4 0 rfl rfl)
theorem dX1_whyNot_81 : decode cX1_whyNot 81 = .ok (.getfield 47, 3) := dk_180 0 47 (dk_at dksX1_whyNot_4 1 rfl rfl)
theorem dX1_whyNot_84 : decode cX1_whyNot 84 = .ok (.invokevirtual 231, 3) := dk_182 0 231 (dk_at dksX1_whyNot_4 4 rfl rfl)
theorem dX1_whyNot_87 : decode cX1_whyNot 87 = .ok (.goto 31, 3) := dk_167 0 31 (dk_at dksX1_whyNot_4 7 rfl rfl)
theorem dX1_whyNot_90 : decode cX1_whyNot 90 = .ok (.aload 6, 2) := dk_25 6 (dk_at dksX1_whyNot_4 10 rfl rfl)
theorem dX1_whyNot_92 : decode cX1_whyNot 92 = .ok (.invokevirtual 107, 3) := dk_182 0 107 (dk_at dksX1_whyNot_4 12 rfl rfl)
theorem dX1_whyNot_95 : decode cX1_whyNot 95 = .ok (.goto 23, 3) := dk_167 0 23 (dk_at dksX1_whyNot_4 15 rfl rfl)
theorem dX1_whyNot_98 : decode cX1_whyNot 98 = .ok (.aload 6, 2) := dk_25 6 (dk_at dksX1_whyNot_4 18 rfl rfl)
theorem dX1_whyNot_100 : decode cX1_whyNot 100 = .ok (.invokevirtual 237, 3) := dk_182 0 237 (dk_at dksX1_whyNot_4 20 rfl rfl)
theorem dX1_whyNot_103 : decode cX1_whyNot 103 = .ok (.goto 15, 3) := dk_167 0 15 (dk_at dksX1_whyNot_5 0 rfl rfl)
theorem dX1_whyNot_106 : decode cX1_whyNot 106 = .ok (.aload 6, 2) := dk_25 6 (dk_at dksX1_whyNot_5 3 rfl rfl)
theorem dX1_whyNot_108 : decode cX1_whyNot 108 = .ok (.checkcast 53, 3) := dk_192 0 53 (dk_at dksX1_whyNot_5 5 rfl rfl)
theorem dX1_whyNot_111 : decode cX1_whyNot 111 = .ok (.getfield 268, 3) := dk_180 1 12 (dk_at dksX1_whyNot_5 8 rfl rfl)
theorem dX1_whyNot_114 : decode cX1_whyNot 114 = .ok (.goto 4, 3) := dk_167 0 4 (dk_at dksX1_whyNot_5 11 rfl rfl)
theorem dX1_whyNot_117 : decode cX1_whyNot 117 = .ok (.iconst (-1), 1) := dk_2 (dk_at dksX1_whyNot_5 14 rfl rfl)
theorem dX1_whyNot_118 : decode cX1_whyNot 118 = .ok (.ireturn, 1) := dk_172 (dk_at dksX1_whyNot_5 15 rfl rfl)
abbrev cX1_hitIf : ByteArray := prog_1_method_40_code
def yX1_hitIf : MethodName := ⟨RX1, "hitIf", "(I)I"⟩
def dkwX1_hitIf_1 : List UInt8 := [182, 0, 131, 4, 27, 120, 182, 1, 73, 44, 182, 1, 39, 172]
abbrev dktX1_hitIf_1 : List UInt8 := dkwX1_hitIf_1 ++ []
def dkwX1_hitIf_0 : List UInt8 := [42, 4, 27, 182, 1, 2, 87, 187, 0, 32, 89, 42, 180, 0, 47, 183, 0, 93, 77, 44, 44, 4]
abbrev dktX1_hitIf_0 : List UInt8 := dkwX1_hitIf_0 ++ dktX1_hitIf_1
theorem dksX1_hitIf_0 : cX1_hitIf.data.toList.drop 0 = dktX1_hitIf_0 := by decide +kernel
theorem dksX1_hitIf_1 : cX1_hitIf.data.toList.drop 22 = dktX1_hitIf_1 := dk_seg dksX1_hitIf_0 22 rfl rfl
theorem dX1_hitIf_0 : decode cX1_hitIf 0 = .ok (.aload_n 0, 1) := dk_42 (dk_at dksX1_hitIf_0 0 rfl rfl)
theorem dX1_hitIf_1 : decode cX1_hitIf 1 = .ok (.iconst 1, 1) := dk_4 (dk_at dksX1_hitIf_0 1 rfl rfl)
theorem dX1_hitIf_2 : decode cX1_hitIf 2 = .ok (.iload_n 1, 1) := dk_27 (dk_at dksX1_hitIf_0 2 rfl rfl)
theorem dX1_hitIf_3 : decode cX1_hitIf 3 = .ok (.invokevirtual 258, 3) := dk_182 1 2 (dk_at dksX1_hitIf_0 3 rfl rfl)
theorem dX1_hitIf_6 : decode cX1_hitIf 6 = .ok (.pop, 1) := dk_87 (dk_at dksX1_hitIf_0 6 rfl rfl)
theorem dX1_hitIf_7 : decode cX1_hitIf 7 = .ok (.new 32, 3) := dk_187 0 32 (dk_at dksX1_hitIf_0 7 rfl rfl)
theorem dX1_hitIf_10 : decode cX1_hitIf 10 = .ok (.dup, 1) := dk_89 (dk_at dksX1_hitIf_0 10 rfl rfl)
theorem dX1_hitIf_11 : decode cX1_hitIf 11 = .ok (.aload_n 0, 1) := dk_42 (dk_at dksX1_hitIf_0 11 rfl rfl)
theorem dX1_hitIf_12 : decode cX1_hitIf 12 = .ok (.getfield 47, 3) := dk_180 0 47 (dk_at dksX1_hitIf_0 12 rfl rfl)
theorem dX1_hitIf_15 : decode cX1_hitIf 15 = .ok (.invokespecial 93, 3) := dk_183 0 93 (dk_at dksX1_hitIf_0 15 rfl rfl)
theorem dX1_hitIf_18 : decode cX1_hitIf 18 = .ok (.astore_n 2, 1) := dk_77 (dk_at dksX1_hitIf_0 18 rfl rfl)
theorem dX1_hitIf_19 : decode cX1_hitIf 19 = .ok (.aload_n 2, 1) := dk_44 (dk_at dksX1_hitIf_0 19 rfl rfl)
theorem dX1_hitIf_20 : decode cX1_hitIf 20 = .ok (.aload_n 2, 1) := dk_44 (dk_at dksX1_hitIf_0 20 rfl rfl)
theorem dX1_hitIf_21 : decode cX1_hitIf 21 = .ok (.iconst 1, 1) := dk_4 (dk_at dksX1_hitIf_0 21 rfl rfl)
theorem dX1_hitIf_22 : decode cX1_hitIf 22 = .ok (.invokevirtual 131, 3) := dk_182 0 131 (dk_at dksX1_hitIf_1 0 rfl rfl)
theorem dX1_hitIf_25 : decode cX1_hitIf 25 = .ok (.iconst 1, 1) := dk_4 (dk_at dksX1_hitIf_1 3 rfl rfl)
theorem dX1_hitIf_26 : decode cX1_hitIf 26 = .ok (.iload_n 1, 1) := dk_27 (dk_at dksX1_hitIf_1 4 rfl rfl)
theorem dX1_hitIf_27 : decode cX1_hitIf 27 = .ok (.ishl, 1) := dk_120 (dk_at dksX1_hitIf_1 5 rfl rfl)
theorem dX1_hitIf_28 : decode cX1_hitIf 28 = .ok (.invokevirtual 329, 3) := dk_182 1 73 (dk_at dksX1_hitIf_1 6 rfl rfl)
theorem dX1_hitIf_31 : decode cX1_hitIf 31 = .ok (.aload_n 2, 1) := dk_44 (dk_at dksX1_hitIf_1 9 rfl rfl)
theorem dX1_hitIf_32 : decode cX1_hitIf 32 = .ok (.invokevirtual 295, 3) := dk_182 1 39 (dk_at dksX1_hitIf_1 10 rfl rfl)
theorem dX1_hitIf_35 : decode cX1_hitIf 35 = .ok (.ireturn, 1) := dk_172 (dk_at dksX1_hitIf_1 13 rfl rfl)
abbrev cX1_fewest : ByteArray := prog_1_method_42_code
def yX1_fewest : MethodName := ⟨RX1, "fewest", "(I)I"⟩
def dkwX1_fewest_4 : List UInt8 := [132, 6, 1, 167, 255, 193, 21, 5, 172]
abbrev dktX1_fewest_4 : List UInt8 := dkwX1_fewest_4 ++ []
def dkwX1_fewest_3 : List UInt8 := [54, 7, 21, 7, 153, 0, 20, 42, 45, 25, 4, 21, 6, 28, 182, 1, 76, 153, 0, 7, 21, 6, 54, 5]
abbrev dktX1_fewest_3 : List UInt8 := dkwX1_fewest_3 ++ dktX1_fewest_4
def dkwX1_fewest_2 : List UInt8 := [21, 5, 2, 159, 0, 16, 21, 6, 184, 0, 253, 21, 5, 184, 0, 253, 162, 0, 7, 4, 167, 0, 4, 3]
abbrev dktX1_fewest_2 : List UInt8 := dkwX1_fewest_2 ++ dktX1_fewest_3
def dkwX1_fewest_1 : List UInt8 := [182, 0, 131, 58, 4, 2, 54, 5, 3, 54, 6, 21, 6, 4, 25, 4, 182, 0, 135, 120, 162, 0, 57]
abbrev dktX1_fewest_1 : List UInt8 := dkwX1_fewest_1 ++ dktX1_fewest_2
def dkwX1_fewest_0 : List UInt8 := [42, 3, 27, 182, 1, 2, 180, 0, 78, 61, 187, 0, 32, 89, 42, 180, 0, 47, 183, 0, 93, 78, 45, 4]
abbrev dktX1_fewest_0 : List UInt8 := dkwX1_fewest_0 ++ dktX1_fewest_1
theorem dksX1_fewest_0 : cX1_fewest.data.toList.drop 0 = dktX1_fewest_0 := by decide +kernel
theorem dksX1_fewest_1 : cX1_fewest.data.toList.drop 24 = dktX1_fewest_1 := dk_seg dksX1_fewest_0 24 rfl rfl
theorem dksX1_fewest_2 : cX1_fewest.data.toList.drop 47 = dktX1_fewest_2 := dk_seg dksX1_fewest_1 23 rfl rfl
theorem dksX1_fewest_3 : cX1_fewest.data.toList.drop 71 = dktX1_fewest_3 := dk_seg dksX1_fewest_2 24 rfl rfl
theorem dksX1_fewest_4 : cX1_fewest.data.toList.drop 95 = dktX1_fewest_4 := dk_seg dksX1_fewest_3 24 rfl rfl
theorem dX1_fewest_0 : decode cX1_fewest 0 = .ok (.aload_n 0, 1) := dk_42 (dk_at dksX1_fewest_0 0 rfl rfl)
theorem dX1_fewest_1 : decode cX1_fewest 1 = .ok (.iconst 0, 1) := dk_3 (dk_at dksX1_fewest_0 1 rfl rfl)
theorem dX1_fewest_2 : decode cX1_fewest 2 = .ok (.iload_n 1, 1) := dk_27 (dk_at dksX1_fewest_0 2 rfl rfl)
theorem dX1_fewest_3 : decode cX1_fewest 3 = .ok (.invokevirtual 258, 3) := dk_182 1 2 (dk_at dksX1_fewest_0 3 rfl rfl)
theorem dX1_fewest_6 : decode cX1_fewest 6 = .ok (.getfield 78, 3) := dk_180 0 78 (dk_at dksX1_fewest_0 6 rfl rfl)
theorem dX1_fewest_9 : decode cX1_fewest 9 = .ok (.istore_n 2, 1) := dk_61 (dk_at dksX1_fewest_0 9 rfl rfl)
theorem dX1_fewest_10 : decode cX1_fewest 10 = .ok (.new 32, 3) := dk_187 0 32 (dk_at dksX1_fewest_0 10 rfl rfl)
theorem dX1_fewest_13 : decode cX1_fewest 13 = .ok (.dup, 1) := dk_89 (dk_at dksX1_fewest_0 13 rfl rfl)
theorem dX1_fewest_14 : decode cX1_fewest 14 = .ok (.aload_n 0, 1) := dk_42 (dk_at dksX1_fewest_0 14 rfl rfl)
theorem dX1_fewest_15 : decode cX1_fewest 15 = .ok (.getfield 47, 3) := dk_180 0 47 (dk_at dksX1_fewest_0 15 rfl rfl)
theorem dX1_fewest_18 : decode cX1_fewest 18 = .ok (.invokespecial 93, 3) := dk_183 0 93 (dk_at dksX1_fewest_0 18 rfl rfl)
theorem dX1_fewest_21 : decode cX1_fewest 21 = .ok (.astore_n 3, 1) := dk_78 (dk_at dksX1_fewest_0 21 rfl rfl)
theorem dX1_fewest_22 : decode cX1_fewest 22 = .ok (.aload_n 3, 1) := dk_45 (dk_at dksX1_fewest_0 22 rfl rfl)
theorem dX1_fewest_23 : decode cX1_fewest 23 = .ok (.iconst 1, 1) := dk_4 (dk_at dksX1_fewest_0 23 rfl rfl)
theorem dX1_fewest_24 : decode cX1_fewest 24 = .ok (.invokevirtual 131, 3) := dk_182 0 131 (dk_at dksX1_fewest_1 0 rfl rfl)
theorem dX1_fewest_27 : decode cX1_fewest 27 = .ok (.astore 4, 2) := dk_58 4 (dk_at dksX1_fewest_1 3 rfl rfl)
theorem dX1_fewest_29 : decode cX1_fewest 29 = .ok (.iconst (-1), 1) := dk_2 (dk_at dksX1_fewest_1 5 rfl rfl)
theorem dX1_fewest_30 : decode cX1_fewest 30 = .ok (.istore 5, 2) := dk_54 5 (dk_at dksX1_fewest_1 6 rfl rfl)
theorem dX1_fewest_32 : decode cX1_fewest 32 = .ok (.iconst 0, 1) := dk_3 (dk_at dksX1_fewest_1 8 rfl rfl)
theorem dX1_fewest_33 : decode cX1_fewest 33 = .ok (.istore 6, 2) := dk_54 6 (dk_at dksX1_fewest_1 9 rfl rfl)
theorem dX1_fewest_35 : decode cX1_fewest 35 = .ok (.iload 6, 2) := dk_21 6 (dk_at dksX1_fewest_1 11 rfl rfl)
theorem dX1_fewest_37 : decode cX1_fewest 37 = .ok (.iconst 1, 1) := dk_4 (dk_at dksX1_fewest_1 13 rfl rfl)
theorem dX1_fewest_38 : decode cX1_fewest 38 = .ok (.aload 4, 2) := dk_25 4 (dk_at dksX1_fewest_1 14 rfl rfl)
theorem dX1_fewest_40 : decode cX1_fewest 40 = .ok (.invokevirtual 135, 3) := dk_182 0 135 (dk_at dksX1_fewest_1 16 rfl rfl)
theorem dX1_fewest_43 : decode cX1_fewest 43 = .ok (.ishl, 1) := dk_120 (dk_at dksX1_fewest_1 19 rfl rfl)
theorem dX1_fewest_44 : decode cX1_fewest 44 = .ok (.if_icmp .ge 57, 3) := dk_162 0 57 (dk_at dksX1_fewest_1 20 rfl rfl)
theorem dX1_fewest_47 : decode cX1_fewest 47 = .ok (.iload 5, 2) := dk_21 5 (dk_at dksX1_fewest_2 0 rfl rfl)
theorem dX1_fewest_49 : decode cX1_fewest 49 = .ok (.iconst (-1), 1) := dk_2 (dk_at dksX1_fewest_2 2 rfl rfl)
theorem dX1_fewest_50 : decode cX1_fewest 50 = .ok (.if_icmp .eq 16, 3) := dk_159 0 16 (dk_at dksX1_fewest_2 3 rfl rfl)
theorem dX1_fewest_53 : decode cX1_fewest 53 = .ok (.iload 6, 2) := dk_21 6 (dk_at dksX1_fewest_2 6 rfl rfl)
theorem dX1_fewest_55 : decode cX1_fewest 55 = .ok (.invokestatic 253, 3) := dk_184 0 253 (dk_at dksX1_fewest_2 8 rfl rfl)
theorem dX1_fewest_58 : decode cX1_fewest 58 = .ok (.iload 5, 2) := dk_21 5 (dk_at dksX1_fewest_2 11 rfl rfl)
theorem dX1_fewest_60 : decode cX1_fewest 60 = .ok (.invokestatic 253, 3) := dk_184 0 253 (dk_at dksX1_fewest_2 13 rfl rfl)
theorem dX1_fewest_63 : decode cX1_fewest 63 = .ok (.if_icmp .ge 7, 3) := dk_162 0 7 (dk_at dksX1_fewest_2 16 rfl rfl)
theorem dX1_fewest_66 : decode cX1_fewest 66 = .ok (.iconst 1, 1) := dk_4 (dk_at dksX1_fewest_2 19 rfl rfl)
theorem dX1_fewest_67 : decode cX1_fewest 67 = .ok (.goto 4, 3) := dk_167 0 4 (dk_at dksX1_fewest_2 20 rfl rfl)
theorem dX1_fewest_70 : decode cX1_fewest 70 = .ok (.iconst 0, 1) := dk_3 (dk_at dksX1_fewest_2 23 rfl rfl)
theorem dX1_fewest_71 : decode cX1_fewest 71 = .ok (.istore 7, 2) := dk_54 7 (dk_at dksX1_fewest_3 0 rfl rfl)
theorem dX1_fewest_73 : decode cX1_fewest 73 = .ok (.iload 7, 2) := dk_21 7 (dk_at dksX1_fewest_3 2 rfl rfl)
theorem dX1_fewest_75 : decode cX1_fewest 75 = .ok (.ifCond .eq 20, 3) := dk_153 0 20 (dk_at dksX1_fewest_3 4 rfl rfl)
theorem dX1_fewest_78 : decode cX1_fewest 78 = .ok (.aload_n 0, 1) := dk_42 (dk_at dksX1_fewest_3 7 rfl rfl)
theorem dX1_fewest_79 : decode cX1_fewest 79 = .ok (.aload_n 3, 1) := dk_45 (dk_at dksX1_fewest_3 8 rfl rfl)
theorem dX1_fewest_80 : decode cX1_fewest 80 = .ok (.aload 4, 2) := dk_25 4 (dk_at dksX1_fewest_3 9 rfl rfl)
theorem dX1_fewest_82 : decode cX1_fewest 82 = .ok (.iload 6, 2) := dk_21 6 (dk_at dksX1_fewest_3 11 rfl rfl)
theorem dX1_fewest_84 : decode cX1_fewest 84 = .ok (.iload_n 2, 1) := dk_28 (dk_at dksX1_fewest_3 13 rfl rfl)
theorem dX1_fewest_85 : decode cX1_fewest 85 = .ok (.invokevirtual 332, 3) := dk_182 1 76 (dk_at dksX1_fewest_3 14 rfl rfl)
theorem dX1_fewest_88 : decode cX1_fewest 88 = .ok (.ifCond .eq 7, 3) := dk_153 0 7 (dk_at dksX1_fewest_3 17 rfl rfl)
theorem dX1_fewest_91 : decode cX1_fewest 91 = .ok (.iload 6, 2) := dk_21 6 (dk_at dksX1_fewest_3 20 rfl rfl)
theorem dX1_fewest_93 : decode cX1_fewest 93 = .ok (.istore 5, 2) := dk_54 5 (dk_at dksX1_fewest_3 22 rfl rfl)
theorem dX1_fewest_95 : decode cX1_fewest 95 = .ok (.iinc 6 1, 3) := dk_132 6 1 (dk_at dksX1_fewest_4 0 rfl rfl)
theorem dX1_fewest_98 : decode cX1_fewest 98 = .ok (.goto (-63), 3) := dk_167 255 193 (dk_at dksX1_fewest_4 3 rfl rfl)
theorem dX1_fewest_101 : decode cX1_fewest 101 = .ok (.iload 5, 2) := dk_21 5 (dk_at dksX1_fewest_4 6 rfl rfl)
theorem dX1_fewest_103 : decode cX1_fewest 103 = .ok (.ireturn, 1) := dk_172 (dk_at dksX1_fewest_4 8 rfl rfl)
abbrev cX1_isHitBy : ByteArray := prog_1_method_41_code
def yX1_isHitBy : MethodName := ⟨RX1, "isHitBy", "(LMirrorDoors$World;Ljava/util/ArrayList;II)Z"⟩
def dkwX1_isHitBy_1 : List UInt8 := [54, 5, 43, 44, 29, 182, 1, 73, 21, 5, 172]
abbrev dktX1_isHitBy_1 : List UInt8 := dkwX1_isHitBy_1 ++ []
def dkwX1_isHitBy_0 : List UInt8 := [43, 44, 29, 182, 1, 73, 43, 182, 0, 240, 21, 4, 182, 0, 243, 153, 0, 7, 4, 167, 0, 4, 3]
abbrev dktX1_isHitBy_0 : List UInt8 := dkwX1_isHitBy_0 ++ dktX1_isHitBy_1
theorem dksX1_isHitBy_0 : cX1_isHitBy.data.toList.drop 0 = dktX1_isHitBy_0 := by decide +kernel
theorem dksX1_isHitBy_1 : cX1_isHitBy.data.toList.drop 23 = dktX1_isHitBy_1 := dk_seg dksX1_isHitBy_0 23 rfl rfl
theorem dX1_isHitBy_0 : decode cX1_isHitBy 0 = .ok (.aload_n 1, 1) := dk_43 (dk_at dksX1_isHitBy_0 0 rfl rfl)
theorem dX1_isHitBy_1 : decode cX1_isHitBy 1 = .ok (.aload_n 2, 1) := dk_44 (dk_at dksX1_isHitBy_0 1 rfl rfl)
theorem dX1_isHitBy_2 : decode cX1_isHitBy 2 = .ok (.iload_n 3, 1) := dk_29 (dk_at dksX1_isHitBy_0 2 rfl rfl)
theorem dX1_isHitBy_3 : decode cX1_isHitBy 3 = .ok (.invokevirtual 329, 3) := dk_182 1 73 (dk_at dksX1_isHitBy_0 3 rfl rfl)
theorem dX1_isHitBy_6 : decode cX1_isHitBy 6 = .ok (.aload_n 1, 1) := dk_43 (dk_at dksX1_isHitBy_0 6 rfl rfl)
theorem dX1_isHitBy_7 : decode cX1_isHitBy 7 = .ok (.invokevirtual 240, 3) := dk_182 0 240 (dk_at dksX1_isHitBy_0 7 rfl rfl)
theorem dX1_isHitBy_10 : decode cX1_isHitBy 10 = .ok (.iload 4, 2) := dk_21 4 (dk_at dksX1_isHitBy_0 10 rfl rfl)
theorem dX1_isHitBy_12 : decode cX1_isHitBy 12 = .ok (.invokevirtual 243, 3) := dk_182 0 243 (dk_at dksX1_isHitBy_0 12 rfl rfl)
theorem dX1_isHitBy_15 : decode cX1_isHitBy 15 = .ok (.ifCond .eq 7, 3) := dk_153 0 7 (dk_at dksX1_isHitBy_0 15 rfl rfl)
theorem dX1_isHitBy_18 : decode cX1_isHitBy 18 = .ok (.iconst 1, 1) := dk_4 (dk_at dksX1_isHitBy_0 18 rfl rfl)
theorem dX1_isHitBy_19 : decode cX1_isHitBy 19 = .ok (.goto 4, 3) := dk_167 0 4 (dk_at dksX1_isHitBy_0 19 rfl rfl)
theorem dX1_isHitBy_22 : decode cX1_isHitBy 22 = .ok (.iconst 0, 1) := dk_3 (dk_at dksX1_isHitBy_0 22 rfl rfl)
theorem dX1_isHitBy_23 : decode cX1_isHitBy 23 = .ok (.istore 5, 2) := dk_54 5 (dk_at dksX1_isHitBy_1 0 rfl rfl)
theorem dX1_isHitBy_25 : decode cX1_isHitBy 25 = .ok (.aload_n 1, 1) := dk_43 (dk_at dksX1_isHitBy_1 2 rfl rfl)
theorem dX1_isHitBy_26 : decode cX1_isHitBy 26 = .ok (.aload_n 2, 1) := dk_44 (dk_at dksX1_isHitBy_1 3 rfl rfl)
theorem dX1_isHitBy_27 : decode cX1_isHitBy 27 = .ok (.iload_n 3, 1) := dk_29 (dk_at dksX1_isHitBy_1 4 rfl rfl)
theorem dX1_isHitBy_28 : decode cX1_isHitBy 28 = .ok (.invokevirtual 329, 3) := dk_182 1 73 (dk_at dksX1_isHitBy_1 5 rfl rfl)
theorem dX1_isHitBy_31 : decode cX1_isHitBy 31 = .ok (.iload 5, 2) := dk_21 5 (dk_at dksX1_isHitBy_1 8 rfl rfl)
theorem dX1_isHitBy_33 : decode cX1_isHitBy 33 = .ok (.ireturn, 1) := dk_172 (dk_at dksX1_isHitBy_1 10 rfl rfl)
abbrev cX1_settings : ByteArray := prog_1_method_43_code
def yX1_settings : MethodName := ⟨RX1, "settings", "(I)I"⟩
def dkwX1_settings_3 : List UInt8 := [132, 6, 1, 167, 255, 218, 21, 5, 172]
abbrev dktX1_settings_3 : List UInt8 := dkwX1_settings_3 ++ []
def dkwX1_settings_2 : List UInt8 := [21, 5, 42, 45, 25, 4, 21, 6, 28, 182, 1, 76, 153, 0, 7, 4, 167, 0, 4, 3, 96, 54, 5]
abbrev dktX1_settings_2 : List UInt8 := dkwX1_settings_2 ++ dktX1_settings_3
def dkwX1_settings_1 : List UInt8 := [182, 0, 131, 58, 4, 3, 54, 5, 3, 54, 6, 21, 6, 4, 25, 4, 182, 0, 135, 120, 162, 0, 32]
abbrev dktX1_settings_1 : List UInt8 := dkwX1_settings_1 ++ dktX1_settings_2
def dkwX1_settings_0 : List UInt8 := [42, 3, 27, 182, 1, 2, 180, 0, 78, 61, 187, 0, 32, 89, 42, 180, 0, 47, 183, 0, 93, 78, 45, 4]
abbrev dktX1_settings_0 : List UInt8 := dkwX1_settings_0 ++ dktX1_settings_1
theorem dksX1_settings_0 : cX1_settings.data.toList.drop 0 = dktX1_settings_0 := by decide +kernel
theorem dksX1_settings_1 : cX1_settings.data.toList.drop 24 = dktX1_settings_1 := dk_seg dksX1_settings_0 24 rfl rfl
theorem dksX1_settings_2 : cX1_settings.data.toList.drop 47 = dktX1_settings_2 := dk_seg dksX1_settings_1 23 rfl rfl
theorem dksX1_settings_3 : cX1_settings.data.toList.drop 70 = dktX1_settings_3 := dk_seg dksX1_settings_2 23 rfl rfl
theorem dX1_settings_0 : decode cX1_settings 0 = .ok (.aload_n 0, 1) := dk_42 (dk_at dksX1_settings_0 0 rfl rfl)
theorem dX1_settings_1 : decode cX1_settings 1 = .ok (.iconst 0, 1) := dk_3 (dk_at dksX1_settings_0 1 rfl rfl)
theorem dX1_settings_2 : decode cX1_settings 2 = .ok (.iload_n 1, 1) := dk_27 (dk_at dksX1_settings_0 2 rfl rfl)
theorem dX1_settings_3 : decode cX1_settings 3 = .ok (.invokevirtual 258, 3) := dk_182 1 2 (dk_at dksX1_settings_0 3 rfl rfl)
theorem dX1_settings_6 : decode cX1_settings 6 = .ok (.getfield 78, 3) := dk_180 0 78 (dk_at dksX1_settings_0 6 rfl rfl)
theorem dX1_settings_9 : decode cX1_settings 9 = .ok (.istore_n 2, 1) := dk_61 (dk_at dksX1_settings_0 9 rfl rfl)
theorem dX1_settings_10 : decode cX1_settings 10 = .ok (.new 32, 3) := dk_187 0 32 (dk_at dksX1_settings_0 10 rfl rfl)
theorem dX1_settings_13 : decode cX1_settings 13 = .ok (.dup, 1) := dk_89 (dk_at dksX1_settings_0 13 rfl rfl)
theorem dX1_settings_14 : decode cX1_settings 14 = .ok (.aload_n 0, 1) := dk_42 (dk_at dksX1_settings_0 14 rfl rfl)
theorem dX1_settings_15 : decode cX1_settings 15 = .ok (.getfield 47, 3) := dk_180 0 47 (dk_at dksX1_settings_0 15 rfl rfl)
theorem dX1_settings_18 : decode cX1_settings 18 = .ok (.invokespecial 93, 3) := dk_183 0 93 (dk_at dksX1_settings_0 18 rfl rfl)
theorem dX1_settings_21 : decode cX1_settings 21 = .ok (.astore_n 3, 1) := dk_78 (dk_at dksX1_settings_0 21 rfl rfl)
theorem dX1_settings_22 : decode cX1_settings 22 = .ok (.aload_n 3, 1) := dk_45 (dk_at dksX1_settings_0 22 rfl rfl)
theorem dX1_settings_23 : decode cX1_settings 23 = .ok (.iconst 1, 1) := dk_4 (dk_at dksX1_settings_0 23 rfl rfl)
theorem dX1_settings_24 : decode cX1_settings 24 = .ok (.invokevirtual 131, 3) := dk_182 0 131 (dk_at dksX1_settings_1 0 rfl rfl)
theorem dX1_settings_27 : decode cX1_settings 27 = .ok (.astore 4, 2) := dk_58 4 (dk_at dksX1_settings_1 3 rfl rfl)
theorem dX1_settings_29 : decode cX1_settings 29 = .ok (.iconst 0, 1) := dk_3 (dk_at dksX1_settings_1 5 rfl rfl)
theorem dX1_settings_30 : decode cX1_settings 30 = .ok (.istore 5, 2) := dk_54 5 (dk_at dksX1_settings_1 6 rfl rfl)
theorem dX1_settings_32 : decode cX1_settings 32 = .ok (.iconst 0, 1) := dk_3 (dk_at dksX1_settings_1 8 rfl rfl)
theorem dX1_settings_33 : decode cX1_settings 33 = .ok (.istore 6, 2) := dk_54 6 (dk_at dksX1_settings_1 9 rfl rfl)
theorem dX1_settings_35 : decode cX1_settings 35 = .ok (.iload 6, 2) := dk_21 6 (dk_at dksX1_settings_1 11 rfl rfl)
theorem dX1_settings_37 : decode cX1_settings 37 = .ok (.iconst 1, 1) := dk_4 (dk_at dksX1_settings_1 13 rfl rfl)
theorem dX1_settings_38 : decode cX1_settings 38 = .ok (.aload 4, 2) := dk_25 4 (dk_at dksX1_settings_1 14 rfl rfl)
theorem dX1_settings_40 : decode cX1_settings 40 = .ok (.invokevirtual 135, 3) := dk_182 0 135 (dk_at dksX1_settings_1 16 rfl rfl)
theorem dX1_settings_43 : decode cX1_settings 43 = .ok (.ishl, 1) := dk_120 (dk_at dksX1_settings_1 19 rfl rfl)
theorem dX1_settings_44 : decode cX1_settings 44 = .ok (.if_icmp .ge 32, 3) := dk_162 0 32 (dk_at dksX1_settings_1 20 rfl rfl)
theorem dX1_settings_47 : decode cX1_settings 47 = .ok (.iload 5, 2) := dk_21 5 (dk_at dksX1_settings_2 0 rfl rfl)
theorem dX1_settings_49 : decode cX1_settings 49 = .ok (.aload_n 0, 1) := dk_42 (dk_at dksX1_settings_2 2 rfl rfl)
theorem dX1_settings_50 : decode cX1_settings 50 = .ok (.aload_n 3, 1) := dk_45 (dk_at dksX1_settings_2 3 rfl rfl)
theorem dX1_settings_51 : decode cX1_settings 51 = .ok (.aload 4, 2) := dk_25 4 (dk_at dksX1_settings_2 4 rfl rfl)
theorem dX1_settings_53 : decode cX1_settings 53 = .ok (.iload 6, 2) := dk_21 6 (dk_at dksX1_settings_2 6 rfl rfl)
theorem dX1_settings_55 : decode cX1_settings 55 = .ok (.iload_n 2, 1) := dk_28 (dk_at dksX1_settings_2 8 rfl rfl)
theorem dX1_settings_56 : decode cX1_settings 56 = .ok (.invokevirtual 332, 3) := dk_182 1 76 (dk_at dksX1_settings_2 9 rfl rfl)
theorem dX1_settings_59 : decode cX1_settings 59 = .ok (.ifCond .eq 7, 3) := dk_153 0 7 (dk_at dksX1_settings_2 12 rfl rfl)
theorem dX1_settings_62 : decode cX1_settings 62 = .ok (.iconst 1, 1) := dk_4 (dk_at dksX1_settings_2 15 rfl rfl)
theorem dX1_settings_63 : decode cX1_settings 63 = .ok (.goto 4, 3) := dk_167 0 4 (dk_at dksX1_settings_2 16 rfl rfl)
theorem dX1_settings_66 : decode cX1_settings 66 = .ok (.iconst 0, 1) := dk_3 (dk_at dksX1_settings_2 19 rfl rfl)
theorem dX1_settings_67 : decode cX1_settings 67 = .ok (.iadd, 1) := dk_96 (dk_at dksX1_settings_2 20 rfl rfl)
theorem dX1_settings_68 : decode cX1_settings 68 = .ok (.istore 5, 2) := dk_54 5 (dk_at dksX1_settings_2 21 rfl rfl)
theorem dX1_settings_70 : decode cX1_settings 70 = .ok (.iinc 6 1, 3) := dk_132 6 1 (dk_at dksX1_settings_3 0 rfl rfl)
theorem dX1_settings_73 : decode cX1_settings 73 = .ok (.goto (-38), 3) := dk_167 255 218 (dk_at dksX1_settings_3 3 rfl rfl)
theorem dX1_settings_76 : decode cX1_settings 76 = .ok (.iload 5, 2) := dk_21 5 (dk_at dksX1_settings_3 6 rfl rfl)
theorem dX1_settings_78 : decode cX1_settings 78 = .ok (.ireturn, 1) := dk_172 (dk_at dksX1_settings_3 8 rfl rfl)
abbrev cX1_worth : ByteArray := prog_1_method_44_code
def yX1_worth : MethodName := ⟨RX1, "worth", "(I)I"⟩
def dkwX1_worth_1 : List UInt8 := [172]
abbrev dktX1_worth_1 : List UInt8 := dkwX1_worth_1 ++ []
def dkwX1_worth_0 : List UInt8 := [27, 3, 6, 184, 0, 165, 184, 0, 169, 187, 0, 32, 89, 42, 180, 0, 47, 183, 0, 93, 27, 182, 1, 80]
abbrev dktX1_worth_0 : List UInt8 := dkwX1_worth_0 ++ dktX1_worth_1
theorem dksX1_worth_0 : cX1_worth.data.toList.drop 0 = dktX1_worth_0 := by decide +kernel
theorem dksX1_worth_1 : cX1_worth.data.toList.drop 24 = dktX1_worth_1 := dk_seg dksX1_worth_0 24 rfl rfl
theorem dX1_worth_0 : decode cX1_worth 0 = .ok (.iload_n 1, 1) := dk_27 (dk_at dksX1_worth_0 0 rfl rfl)
theorem dX1_worth_1 : decode cX1_worth 1 = .ok (.iconst 0, 1) := dk_3 (dk_at dksX1_worth_0 1 rfl rfl)
theorem dX1_worth_2 : decode cX1_worth 2 = .ok (.iconst 3, 1) := dk_6 (dk_at dksX1_worth_0 2 rfl rfl)
theorem dX1_worth_3 : decode cX1_worth 3 = .ok (.invokestatic 165, 3) := dk_184 0 165 (dk_at dksX1_worth_0 3 rfl rfl)
theorem dX1_worth_6 : decode cX1_worth 6 = .ok (.invokestatic 169, 3) := dk_184 0 169 (dk_at dksX1_worth_0 6 rfl rfl)
theorem dX1_worth_9 : decode cX1_worth 9 = .ok (.new 32, 3) := dk_187 0 32 (dk_at dksX1_worth_0 9 rfl rfl)
theorem dX1_worth_12 : decode cX1_worth 12 = .ok (.dup, 1) := dk_89 (dk_at dksX1_worth_0 12 rfl rfl)
theorem dX1_worth_13 : decode cX1_worth 13 = .ok (.aload_n 0, 1) := dk_42 (dk_at dksX1_worth_0 13 rfl rfl)
theorem dX1_worth_14 : decode cX1_worth 14 = .ok (.getfield 47, 3) := dk_180 0 47 (dk_at dksX1_worth_0 14 rfl rfl)
theorem dX1_worth_17 : decode cX1_worth 17 = .ok (.invokespecial 93, 3) := dk_183 0 93 (dk_at dksX1_worth_0 17 rfl rfl)
theorem dX1_worth_20 : decode cX1_worth 20 = .ok (.iload_n 1, 1) := dk_27 (dk_at dksX1_worth_0 20 rfl rfl)
theorem dX1_worth_21 : decode cX1_worth 21 = .ok (.invokevirtual 336, 3) := dk_182 1 80 (dk_at dksX1_worth_0 21 rfl rfl)
theorem dX1_worth_24 : decode cX1_worth 24 = .ok (.ireturn, 1) := dk_172 (dk_at dksX1_worth_1 0 rfl rfl)
abbrev cX1_best : ByteArray := prog_1_method_45_code
def yX1_best : MethodName := ⟨RX1, "best", "(I)I"⟩
def dkwX1_best_4 : List UInt8 := [21, 7, 54, 5, 21, 6, 54, 4, 132, 6, 1, 167, 255, 189, 21, 4, 172]
abbrev dktX1_best_4 : List UInt8 := dkwX1_best_4 ++ []
def dkwX1_best_3 : List UInt8 := [21, 6, 182, 0, 249, 192, 0, 53, 27, 4, 100, 182, 1, 83, 54, 7, 21, 7, 21, 5, 162, 0, 11]
abbrev dktX1_best_3 : List UInt8 := dkwX1_best_3 ++ dktX1_best_4
def dkwX1_best_2 : List UInt8 := [44, 45, 21, 6, 182, 0, 249, 192, 0, 51, 180, 0, 78, 182, 0, 199, 153, 0, 6, 167, 0, 36, 44, 45]
abbrev dktX1_best_2 : List UInt8 := dkwX1_best_2 ++ dktX1_best_3
def dkwX1_best_1 : List UInt8 := [182, 0, 131, 78, 2, 54, 4, 17, 3, 232, 54, 5, 3, 54, 6, 21, 6, 45, 182, 0, 135, 162, 0, 64]
abbrev dktX1_best_1 : List UInt8 := dkwX1_best_1 ++ dktX1_best_2
def dkwX1_best_0 : List UInt8 := [27, 4, 6, 184, 0, 165, 184, 0, 169, 187, 0, 32, 89, 42, 180, 0, 47, 183, 0, 93, 77, 44, 4]
abbrev dktX1_best_0 : List UInt8 := dkwX1_best_0 ++ dktX1_best_1
theorem dksX1_best_0 : cX1_best.data.toList.drop 0 = dktX1_best_0 := by decide +kernel
theorem dksX1_best_1 : cX1_best.data.toList.drop 23 = dktX1_best_1 := dk_seg dksX1_best_0 23 rfl rfl
theorem dksX1_best_2 : cX1_best.data.toList.drop 47 = dktX1_best_2 := dk_seg dksX1_best_1 24 rfl rfl
theorem dksX1_best_3 : cX1_best.data.toList.drop 71 = dktX1_best_3 := dk_seg dksX1_best_2 24 rfl rfl
theorem dksX1_best_4 : cX1_best.data.toList.drop 94 = dktX1_best_4 := dk_seg dksX1_best_3 23 rfl rfl
theorem dX1_best_0 : decode cX1_best 0 = .ok (.iload_n 1, 1) := dk_27 (dk_at dksX1_best_0 0 rfl rfl)
theorem dX1_best_1 : decode cX1_best 1 = .ok (.iconst 1, 1) := dk_4 (dk_at dksX1_best_0 1 rfl rfl)
theorem dX1_best_2 : decode cX1_best 2 = .ok (.iconst 3, 1) := dk_6 (dk_at dksX1_best_0 2 rfl rfl)
theorem dX1_best_3 : decode cX1_best 3 = .ok (.invokestatic 165, 3) := dk_184 0 165 (dk_at dksX1_best_0 3 rfl rfl)
theorem dX1_best_6 : decode cX1_best 6 = .ok (.invokestatic 169, 3) := dk_184 0 169 (dk_at dksX1_best_0 6 rfl rfl)
theorem dX1_best_9 : decode cX1_best 9 = .ok (.new 32, 3) := dk_187 0 32 (dk_at dksX1_best_0 9 rfl rfl)
theorem dX1_best_12 : decode cX1_best 12 = .ok (.dup, 1) := dk_89 (dk_at dksX1_best_0 12 rfl rfl)
theorem dX1_best_13 : decode cX1_best 13 = .ok (.aload_n 0, 1) := dk_42 (dk_at dksX1_best_0 13 rfl rfl)
theorem dX1_best_14 : decode cX1_best 14 = .ok (.getfield 47, 3) := dk_180 0 47 (dk_at dksX1_best_0 14 rfl rfl)
theorem dX1_best_17 : decode cX1_best 17 = .ok (.invokespecial 93, 3) := dk_183 0 93 (dk_at dksX1_best_0 17 rfl rfl)
theorem dX1_best_20 : decode cX1_best 20 = .ok (.astore_n 2, 1) := dk_77 (dk_at dksX1_best_0 20 rfl rfl)
theorem dX1_best_21 : decode cX1_best 21 = .ok (.aload_n 2, 1) := dk_44 (dk_at dksX1_best_0 21 rfl rfl)
theorem dX1_best_22 : decode cX1_best 22 = .ok (.iconst 1, 1) := dk_4 (dk_at dksX1_best_0 22 rfl rfl)
theorem dX1_best_23 : decode cX1_best 23 = .ok (.invokevirtual 131, 3) := dk_182 0 131 (dk_at dksX1_best_1 0 rfl rfl)
theorem dX1_best_26 : decode cX1_best 26 = .ok (.astore_n 3, 1) := dk_78 (dk_at dksX1_best_1 3 rfl rfl)
theorem dX1_best_27 : decode cX1_best 27 = .ok (.iconst (-1), 1) := dk_2 (dk_at dksX1_best_1 4 rfl rfl)
theorem dX1_best_28 : decode cX1_best 28 = .ok (.istore 4, 2) := dk_54 4 (dk_at dksX1_best_1 5 rfl rfl)
theorem dX1_best_30 : decode cX1_best 30 = .ok (.sipush 1000, 3) := dk_17 3 232 (dk_at dksX1_best_1 7 rfl rfl)
theorem dX1_best_33 : decode cX1_best 33 = .ok (.istore 5, 2) := dk_54 5 (dk_at dksX1_best_1 10 rfl rfl)
theorem dX1_best_35 : decode cX1_best 35 = .ok (.iconst 0, 1) := dk_3 (dk_at dksX1_best_1 12 rfl rfl)
theorem dX1_best_36 : decode cX1_best 36 = .ok (.istore 6, 2) := dk_54 6 (dk_at dksX1_best_1 13 rfl rfl)
theorem dX1_best_38 : decode cX1_best 38 = .ok (.iload 6, 2) := dk_21 6 (dk_at dksX1_best_1 15 rfl rfl)
theorem dX1_best_40 : decode cX1_best 40 = .ok (.aload_n 3, 1) := dk_45 (dk_at dksX1_best_1 17 rfl rfl)
theorem dX1_best_41 : decode cX1_best 41 = .ok (.invokevirtual 135, 3) := dk_182 0 135 (dk_at dksX1_best_1 18 rfl rfl)
theorem dX1_best_44 : decode cX1_best 44 = .ok (.if_icmp .ge 64, 3) := dk_162 0 64 (dk_at dksX1_best_1 21 rfl rfl)
theorem dX1_best_47 : decode cX1_best 47 = .ok (.aload_n 2, 1) := dk_44 (dk_at dksX1_best_2 0 rfl rfl)
theorem dX1_best_48 : decode cX1_best 48 = .ok (.aload_n 3, 1) := dk_45 (dk_at dksX1_best_2 1 rfl rfl)
theorem dX1_best_49 : decode cX1_best 49 = .ok (.iload 6, 2) := dk_21 6 (dk_at dksX1_best_2 2 rfl rfl)
theorem dX1_best_51 : decode cX1_best 51 = .ok (.invokevirtual 249, 3) := dk_182 0 249 (dk_at dksX1_best_2 4 rfl rfl)
theorem dX1_best_54 : decode cX1_best 54 = .ok (.checkcast 51, 3) := dk_192 0 51 (dk_at dksX1_best_2 7 rfl rfl)
theorem dX1_best_57 : decode cX1_best 57 = .ok (.getfield 78, 3) := dk_180 0 78 (dk_at dksX1_best_2 10 rfl rfl)
theorem dX1_best_60 : decode cX1_best 60 = .ok (.invokevirtual 199, 3) := dk_182 0 199 (dk_at dksX1_best_2 13 rfl rfl)
theorem dX1_best_63 : decode cX1_best 63 = .ok (.ifCond .eq 6, 3) := dk_153 0 6 (dk_at dksX1_best_2 16 rfl rfl)
theorem dX1_best_66 : decode cX1_best 66 = .ok (.goto 36, 3) := dk_167 0 36 (dk_at dksX1_best_2 19 rfl rfl)
theorem dX1_best_69 : decode cX1_best 69 = .ok (.aload_n 2, 1) := dk_44 (dk_at dksX1_best_2 22 rfl rfl)
theorem dX1_best_70 : decode cX1_best 70 = .ok (.aload_n 3, 1) := dk_45 (dk_at dksX1_best_2 23 rfl rfl)
theorem dX1_best_71 : decode cX1_best 71 = .ok (.iload 6, 2) := dk_21 6 (dk_at dksX1_best_3 0 rfl rfl)
theorem dX1_best_73 : decode cX1_best 73 = .ok (.invokevirtual 249, 3) := dk_182 0 249 (dk_at dksX1_best_3 2 rfl rfl)
theorem dX1_best_76 : decode cX1_best 76 = .ok (.checkcast 53, 3) := dk_192 0 53 (dk_at dksX1_best_3 5 rfl rfl)
theorem dX1_best_79 : decode cX1_best 79 = .ok (.iload_n 1, 1) := dk_27 (dk_at dksX1_best_3 8 rfl rfl)
theorem dX1_best_80 : decode cX1_best 80 = .ok (.iconst 1, 1) := dk_4 (dk_at dksX1_best_3 9 rfl rfl)
theorem dX1_best_81 : decode cX1_best 81 = .ok (.isub, 1) := dk_100 (dk_at dksX1_best_3 10 rfl rfl)
theorem dX1_best_82 : decode cX1_best 82 = .ok (.invokevirtual 339, 3) := dk_182 1 83 (dk_at dksX1_best_3 11 rfl rfl)
theorem dX1_best_85 : decode cX1_best 85 = .ok (.istore 7, 2) := dk_54 7 (dk_at dksX1_best_3 14 rfl rfl)
theorem dX1_best_87 : decode cX1_best 87 = .ok (.iload 7, 2) := dk_21 7 (dk_at dksX1_best_3 16 rfl rfl)
theorem dX1_best_89 : decode cX1_best 89 = .ok (.iload 5, 2) := dk_21 5 (dk_at dksX1_best_3 18 rfl rfl)
theorem dX1_best_91 : decode cX1_best 91 = .ok (.if_icmp .ge 11, 3) := dk_162 0 11 (dk_at dksX1_best_3 20 rfl rfl)
theorem dX1_best_94 : decode cX1_best 94 = .ok (.iload 7, 2) := dk_21 7 (dk_at dksX1_best_4 0 rfl rfl)
theorem dX1_best_96 : decode cX1_best 96 = .ok (.istore 5, 2) := dk_54 5 (dk_at dksX1_best_4 2 rfl rfl)
theorem dX1_best_98 : decode cX1_best 98 = .ok (.iload 6, 2) := dk_21 6 (dk_at dksX1_best_4 4 rfl rfl)
theorem dX1_best_100 : decode cX1_best 100 = .ok (.istore 4, 2) := dk_54 4 (dk_at dksX1_best_4 6 rfl rfl)
theorem dX1_best_102 : decode cX1_best 102 = .ok (.iinc 6 1, 3) := dk_132 6 1 (dk_at dksX1_best_4 8 rfl rfl)
theorem dX1_best_105 : decode cX1_best 105 = .ok (.goto (-67), 3) := dk_167 255 189 (dk_at dksX1_best_4 11 rfl rfl)
theorem dX1_best_108 : decode cX1_best 108 = .ok (.iload 4, 2) := dk_21 4 (dk_at dksX1_best_4 14 rfl rfl)
theorem dX1_best_110 : decode cX1_best 110 = .ok (.ireturn, 1) := dk_172 (dk_at dksX1_best_4 16 rfl rfl)
theorem q111 : (Jvm.Cond.initialized "MirrorDoors") ∈ lw_all := lw_g (lw_at lw_m1 1 rfl) rfl
theorem q149 : (Jvm.Cond.instantiable "MirrorDoors" (7 : Nat)) ∈ lw_all := lw_g (lw_at lw_m1 39 rfl) rfl
theorem q151 : (Jvm.Cond.instanceMethod ({ cls := "MirrorDoors", name := "<init>", desc := "()V" } : Jvm.MethodName)) ∈ lw_all := lw_g (lw_at lw_m1 41 rfl) rfl
theorem q152 : (Jvm.Cond.code ({ cls := "MirrorDoors", name := "<init>", desc := "()V" } : Jvm.MethodName) prog_1_method_3_code (1 : Nat) (Option.none : Option Jvm.ClassFile.FieldType)) ∈ lw_all := lw_g (lw_at lw_m1 42 rfl) rfl
theorem q153 : (Jvm.Cond.methodLink "MirrorDoors" (7 : Nat) ({ cls := "java/lang/Object", name := "<init>", desc := "()V" } : Jvm.MethodName)) ∈ lw_all := lw_g (lw_at lw_m1 43 rfl) rfl
theorem q156 : (Jvm.Cond.classLink "MirrorDoors" (10 : Nat) "MirrorDoors$Ray") ∈ lw_all := lw_g (lw_at lw_m1 46 rfl) rfl
theorem q158 : (Jvm.Cond.methodLinkNest "MirrorDoors" (12 : Nat) ({ cls := "MirrorDoors$Ray", name := "<init>", desc := "()V" } : Jvm.MethodName) "MirrorDoors") ∈ lw_tbl := lw_at lw_m1 48 rfl
theorem q164 : (Jvm.Cond.fieldLinkNest "MirrorDoors" (308 : Nat) "MirrorDoors$Ray" "beams" "[I" "MirrorDoors") ∈ lw_tbl := lw_at lw_m1 54 rfl
theorem q168 : (Jvm.Cond.fieldLinkNest "MirrorDoors" (287 : Nat) "MirrorDoors$Ray" "many" "I" "MirrorDoors") ∈ lw_tbl := lw_at lw_m1 58 rfl
theorem q170 : (Jvm.Cond.fieldLinkNest "MirrorDoors" (292 : Nat) "MirrorDoors$Ray" "exits" "I" "MirrorDoors") ∈ lw_tbl := lw_at lw_m1 60 rfl
theorem q203 : (Jvm.Cond.classLink "MirrorDoors" (23 : Nat) "java/util/ArrayDeque") ∈ lw_all := lw_g (lw_at lw_m1 93 rfl) rfl
theorem q205 : (Jvm.Cond.methodLink "MirrorDoors" (25 : Nat) ({ cls := "java/util/ArrayDeque", name := "<init>", desc := "(I)V" } : Jvm.MethodName)) ∈ lw_all := lw_g (lw_at lw_m1 95 rfl) rfl
theorem q226 : (Jvm.Cond.classLink "MirrorDoors" (32 : Nat) "MirrorDoors$World") ∈ lw_all := lw_g (lw_at lw_m1 116 rfl) rfl
theorem q228 : (Jvm.Cond.stringRef "MirrorDoors" (38 : Nat) "") ∈ lw_tbl := lw_at lw_m1 118 rfl
theorem q230 : (Jvm.Cond.methodLink "MirrorDoors" (44 : Nat) ({ cls := "MirrorDoors$World", name := "<init>", desc := "(LMirrorDoors$Ray;IIII)V" } : Jvm.MethodName)) ∈ lw_all := lw_g (lw_at lw_m1 120 rfl) rfl
theorem q242 : (Jvm.Cond.fieldLinkNest "MirrorDoors" (222 : Nat) "MirrorDoors$World" "wide" "I" "MirrorDoors") ∈ lw_tbl := lw_at lw_m1 132 rfl
theorem q245 : (Jvm.Cond.fieldLinkNest "MirrorDoors" (225 : Nat) "MirrorDoors$World" "high" "I" "MirrorDoors") ∈ lw_tbl := lw_at lw_m1 135 rfl
theorem q248 : (Jvm.Cond.fieldLinkNest "MirrorDoors" (74 : Nat) "MirrorDoors$World" "cells" "[LMirrorDoors$Cell;" "MirrorDoors") ∈ lw_tbl := lw_at lw_m1 138 rfl
theorem q252 : (Jvm.Cond.fieldLinkNest "MirrorDoors" (189 : Nat) "MirrorDoors$World" "lamp" "I" "MirrorDoors") ∈ lw_tbl := lw_at lw_m1 142 rfl
theorem q255 : (Jvm.Cond.fieldLinkNest "MirrorDoors" (196 : Nat) "MirrorDoors$World" "lock" "I" "MirrorDoors") ∈ lw_tbl := lw_at lw_m1 145 rfl
theorem q257 : (Jvm.Cond.fieldLinkNest "MirrorDoors" (67 : Nat) "MirrorDoors$World" "limit" "I" "MirrorDoors") ∈ lw_tbl := lw_at lw_m1 147 rfl
theorem q260 : (Jvm.Cond.fieldLinkNest "MirrorDoors" (110 : Nat) "MirrorDoors$World" "moves" "I" "MirrorDoors") ∈ lw_tbl := lw_at lw_m1 150 rfl
theorem q299 : (Jvm.Cond.fieldLink "MirrorDoors" (78 : Nat) "MirrorDoors$Cell" "at" "I") ∈ lw_all := lw_g (lw_at lw_m1 189 rfl) rfl
theorem q301 : (Jvm.Cond.fieldLink "MirrorDoors" (262 : Nat) "MirrorDoors$Mirror" "at" "I") ∈ lw_all := lw_g (lw_at lw_m1 191 rfl) rfl
theorem q302 : (Jvm.Cond.fieldLink "MirrorDoors" (279 : Nat) "MirrorDoors$Door" "at" "I") ∈ lw_all := lw_g (lw_at lw_m1 192 rfl) rfl
theorem q317 : (Jvm.Cond.classLink "MirrorDoors" (51 : Nat) "MirrorDoors$Cell") ∈ lw_all := lw_g (lw_at lw_m1 207 rfl) rfl
theorem q318 : (Jvm.Cond.classLink "MirrorDoors" (53 : Nat) "MirrorDoors$Mirror") ∈ lw_all := lw_g (lw_at lw_m1 208 rfl) rfl
theorem q320 : (Jvm.Cond.methodLink "MirrorDoors" (55 : Nat) ({ cls := "MirrorDoors$Mirror", name := "<init>", desc := "(IZII)V" } : Jvm.MethodName)) ∈ lw_all := lw_g (lw_at lw_m1 210 rfl) rfl
theorem q325 : (Jvm.Cond.fieldLinkNest "MirrorDoors" (269 : Nat) "MirrorDoors$Mirror" "half" "Z" "MirrorDoors") ∈ lw_tbl := lw_at lw_m1 215 rfl
theorem q328 : (Jvm.Cond.fieldLinkNest "MirrorDoors" (266 : Nat) "MirrorDoors$Mirror" "owner" "I" "MirrorDoors") ∈ lw_tbl := lw_at lw_m1 218 rfl
theorem q331 : (Jvm.Cond.fieldLinkNest "MirrorDoors" (263 : Nat) "MirrorDoors$Mirror" "slant" "I" "MirrorDoors") ∈ lw_tbl := lw_at lw_m1 221 rfl
theorem q334 : (Jvm.Cond.fieldLinkNest "MirrorDoors" (268 : Nat) "MirrorDoors$Mirror" "lock" "I" "MirrorDoors") ∈ lw_tbl := lw_at lw_m1 224 rfl
theorem q337 : (Jvm.Cond.fieldLinkNest "MirrorDoors" (273 : Nat) "MirrorDoors$Mirror" "turns" "I" "MirrorDoors") ∈ lw_tbl := lw_at lw_m1 227 rfl
theorem q350 : (Jvm.Cond.classLink "MirrorDoors" (58 : Nat) "MirrorDoors$Door") ∈ lw_all := lw_g (lw_at lw_m2 0 rfl) rfl
theorem q352 : (Jvm.Cond.methodLink "MirrorDoors" (60 : Nat) ({ cls := "MirrorDoors$Door", name := "<init>", desc := "(II)V" } : Jvm.MethodName)) ∈ lw_all := lw_g (lw_at lw_m2 2 rfl) rfl
theorem q357 : (Jvm.Cond.fieldLinkNest "MirrorDoors" (280 : Nat) "MirrorDoors$Door" "owner" "I" "MirrorDoors") ∈ lw_tbl := lw_at lw_m2 7 rfl
theorem q360 : (Jvm.Cond.fieldLinkNest "MirrorDoors" (284 : Nat) "MirrorDoors$Door" "opened" "I" "MirrorDoors") ∈ lw_tbl := lw_at lw_m2 10 rfl
theorem q367 : (Jvm.Cond.methodLink "MirrorDoors" (63 : Nat) ({ cls := "MirrorDoors", name := "lays", desc := "([LMirrorDoors$Cell;)V" } : Jvm.MethodName)) ∈ lw_all := lw_g (lw_at lw_m2 17 rfl) rfl
theorem q368 : (Jvm.Cond.privateMethod ({ cls := "MirrorDoors", name := "lays", desc := "([LMirrorDoors$Cell;)V" } : Jvm.MethodName)) ∈ lw_tbl := lw_at lw_m2 18 rfl
theorem q369 : (Jvm.Cond.instanceMethod ({ cls := "MirrorDoors", name := "lays", desc := "([LMirrorDoors$Cell;)V" } : Jvm.MethodName)) ∈ lw_all := lw_g (lw_at lw_m2 19 rfl) rfl
theorem q370 : (Jvm.Cond.code ({ cls := "MirrorDoors", name := "lays", desc := "([LMirrorDoors$Cell;)V" } : Jvm.MethodName) prog_1_method_4_code (6 : Nat) (Option.none : Option Jvm.ClassFile.FieldType)) ∈ lw_all := lw_g (lw_at lw_m2 20 rfl) rfl
theorem q371 : (Jvm.Cond.methodLink "MirrorDoors" (71 : Nat) ({ cls := "MirrorDoors$World", name := "laysOpen", desc := "()V" } : Jvm.MethodName)) ∈ lw_all := lw_g (lw_at lw_m2 21 rfl) rfl
theorem q410 : (Jvm.Cond.laysStatic "MirrorDoors" "DX" "[I") ∈ lw_tbl := lw_at lw_m2 60 rfl
theorem q412 : (Jvm.Cond.laysStatic "MirrorDoors" "DY" "[I") ∈ lw_tbl := lw_at lw_m2 62 rfl
theorem q418 : (Jvm.Cond.static ({ cls := "MirrorDoors", name := "isIn", desc := "(III)Z" } : Jvm.MethodName)) ∈ lw_all := lw_g (lw_at lw_m2 68 rfl) rfl
theorem q419 : (Jvm.Cond.code ({ cls := "MirrorDoors", name := "isIn", desc := "(III)Z" } : Jvm.MethodName) prog_1_method_1_code (3 : Nat) (Option.some Jvm.ClassFile.FieldType.boolean)) ∈ lw_all := lw_g (lw_at lw_m2 69 rfl) rfl
theorem q468 : (Jvm.Cond.fieldLink "MirrorDoors" (13 : Nat) "MirrorDoors" "ray" "LMirrorDoors$Ray;") ∈ lw_all := lw_g (lw_at lw_m2 118 rfl) rfl
theorem q471 : (Jvm.Cond.fieldLink "MirrorDoors" (19 : Nat) "MirrorDoors" "buffer" "[B") ∈ lw_all := lw_g (lw_at lw_m2 121 rfl) rfl
theorem q472 : (Jvm.Cond.fieldLink "MirrorDoors" (120 : Nat) "MirrorDoors" "length" "I") ∈ lw_all := lw_g (lw_at lw_m2 122 rfl) rfl
theorem q473 : (Jvm.Cond.fieldLink "MirrorDoors" (47 : Nat) "MirrorDoors" "now" "LMirrorDoors$World;") ∈ lw_all := lw_g (lw_at lw_m2 123 rfl) rfl
theorem q474 : (Jvm.Cond.fieldLink "MirrorDoors" (28 : Nat) "MirrorDoors" "history" "Ljava/util/ArrayDeque;") ∈ lw_all := lw_g (lw_at lw_m2 124 rfl) rfl
theorem q475 : (Jvm.Cond.fieldLink "MirrorDoors" (34 : Nat) "MirrorDoors" "kept" "[LMirrorDoors$World;") ∈ lw_all := lw_g (lw_at lw_m2 125 rfl) rfl
theorem q476 : (Jvm.Cond.fieldLink "MirrorDoors" (40 : Nat) "MirrorDoors" "report" "Ljava/lang/String;") ∈ lw_all := lw_g (lw_at lw_m2 126 rfl) rfl
theorem q477 : (Jvm.Cond.laysFinal "MirrorDoors" "MirrorDoors" "ray" "LMirrorDoors$Ray;") ∈ lw_all := lw_g (lw_at lw_m2 127 rfl) rfl
theorem q478 : (Jvm.Cond.soleField "MirrorDoors" "ray") ∈ lw_all := lw_g (lw_at lw_m2 128 rfl) rfl
theorem q479 : (Jvm.Cond.laysFinal "MirrorDoors" "MirrorDoors" "buffer" "[B") ∈ lw_all := lw_g (lw_at lw_m2 129 rfl) rfl
theorem q480 : (Jvm.Cond.soleField "MirrorDoors" "buffer") ∈ lw_all := lw_g (lw_at lw_m2 130 rfl) rfl
theorem q481 : (Jvm.Cond.lays "MirrorDoors" "MirrorDoors" "length" "I") ∈ lw_all := lw_g (lw_at lw_m2 131 rfl) rfl
theorem q482 : (Jvm.Cond.soleField "MirrorDoors" "length") ∈ lw_all := lw_g (lw_at lw_m2 132 rfl) rfl
theorem q483 : (Jvm.Cond.lays "MirrorDoors" "MirrorDoors" "now" "LMirrorDoors$World;") ∈ lw_all := lw_g (lw_at lw_m2 133 rfl) rfl
theorem q484 : (Jvm.Cond.soleField "MirrorDoors" "now") ∈ lw_all := lw_g (lw_at lw_m2 134 rfl) rfl
theorem q485 : (Jvm.Cond.laysFinal "MirrorDoors" "MirrorDoors" "history" "Ljava/util/ArrayDeque;") ∈ lw_all := lw_g (lw_at lw_m2 135 rfl) rfl
theorem q486 : (Jvm.Cond.soleField "MirrorDoors" "history") ∈ lw_all := lw_g (lw_at lw_m2 136 rfl) rfl
theorem q487 : (Jvm.Cond.laysFinal "MirrorDoors" "MirrorDoors" "kept" "[LMirrorDoors$World;") ∈ lw_all := lw_g (lw_at lw_m2 137 rfl) rfl
theorem q488 : (Jvm.Cond.soleField "MirrorDoors" "kept") ∈ lw_all := lw_g (lw_at lw_m2 138 rfl) rfl
theorem q489 : (Jvm.Cond.lays "MirrorDoors" "MirrorDoors" "report" "Ljava/lang/String;") ∈ lw_all := lw_g (lw_at lw_m2 139 rfl) rfl
theorem q490 : (Jvm.Cond.soleField "MirrorDoors" "report") ∈ lw_all := lw_g (lw_at lw_m2 140 rfl) rfl
theorem q491 : (Jvm.Cond.superclass "MirrorDoors" "java/lang/Object") ∈ lw_all := lw_g (lw_at lw_m2 141 rfl) rfl
theorem q493 : (Jvm.Cond.instanceMethod ({ cls := "MirrorDoors", name := "load", desc := "()I" } : Jvm.MethodName)) ∈ lw_all := lw_g (lw_at lw_m2 143 rfl) rfl
theorem q494 : (Jvm.Cond.selects "MirrorDoors" ({ cls := "MirrorDoors", name := "load", desc := "()I" } : Jvm.MethodName) ({ cls := "MirrorDoors", name := "load", desc := "()I" } : Jvm.MethodName)) ∈ lw_all := lw_g (lw_at lw_m2 144 rfl) rfl
theorem q495 : (Jvm.Cond.codeWith ({ cls := "MirrorDoors", name := "load", desc := "()I" } : Jvm.MethodName) prog_1_method_11_code (3 : Nat) (Option.some Jvm.ClassFile.FieldType.int) [((10 : Nat), (33 : Nat), (34 : Nat), (138 : Nat))]) ∈ lw_all := lw_g (lw_at lw_m2 145 rfl) rfl
theorem q496 : (Jvm.Cond.classLink "MirrorDoors" (138 : Nat) "MirrorDoors$TextException") ∈ lw_all := lw_g (lw_at lw_m2 146 rfl) rfl
theorem q497 : (Jvm.Cond.classLink "MirrorDoors" (123 : Nat) "MirrorDoors$Reader") ∈ lw_all := lw_g (lw_at lw_m2 147 rfl) rfl
theorem q499 : (Jvm.Cond.methodLink "MirrorDoors" (125 : Nat) ({ cls := "MirrorDoors$Reader", name := "<init>", desc := "(LMirrorDoors;I)V" } : Jvm.MethodName)) ∈ lw_all := lw_g (lw_at lw_m2 149 rfl) rfl
theorem q522 : (Jvm.Cond.methodLink "MirrorDoors" (128 : Nat) ({ cls := "MirrorDoors$Reader", name := "read", desc := "()LMirrorDoors$World;" } : Jvm.MethodName)) ∈ lw_all := lw_g (lw_at lw_m2 172 rfl) rfl
theorem q905 : (Jvm.Cond.fieldLinkNest "MirrorDoors" (143 : Nat) "MirrorDoors$TextException" "code" "I" "MirrorDoors") ∈ lw_tbl := lw_at lw_m4 75 rfl
theorem q907 : (Jvm.Cond.fieldLinkNest "MirrorDoors" (140 : Nat) "MirrorDoors$TextException" "position" "I" "MirrorDoors") ∈ lw_tbl := lw_at lw_m4 77 rfl
theorem q1142 : (Jvm.Cond.methodLink "MirrorDoors" (96 : Nat) ({ cls := "MirrorDoors", name := "change", desc := "(LMirrorDoors$World;)LMirrorDoors$World;" } : Jvm.MethodName)) ∈ lw_all := lw_g (lw_at lw_m5 72 rfl) rfl
theorem q1143 : (Jvm.Cond.privateMethod ({ cls := "MirrorDoors", name := "change", desc := "(LMirrorDoors$World;)LMirrorDoors$World;" } : Jvm.MethodName)) ∈ lw_tbl := lw_at lw_m5 73 rfl
theorem q1144 : (Jvm.Cond.instanceMethod ({ cls := "MirrorDoors", name := "change", desc := "(LMirrorDoors$World;)LMirrorDoors$World;" } : Jvm.MethodName)) ∈ lw_all := lw_g (lw_at lw_m5 74 rfl) rfl
theorem q1145 : (Jvm.Cond.code ({ cls := "MirrorDoors", name := "change", desc := "(LMirrorDoors$World;)LMirrorDoors$World;" } : Jvm.MethodName) prog_1_method_5_code (2 : Nat) (Option.some (Jvm.ClassFile.FieldType.object "MirrorDoors$World"))) ∈ lw_all := lw_g (lw_at lw_m5 75 rfl) rfl
theorem q1146 : (Jvm.Cond.methodLink "MirrorDoors" (81 : Nat) ({ cls := "java/util/ArrayDeque", name := "size", desc := "()I" } : Jvm.MethodName)) ∈ lw_all := lw_g (lw_at lw_m5 76 rfl) rfl
theorem q1153 : (Jvm.Cond.methodLink "MirrorDoors" (85 : Nat) ({ cls := "java/util/ArrayDeque", name := "removeFirst", desc := "()Ljava/lang/Object;" } : Jvm.MethodName)) ∈ lw_all := lw_g (lw_at lw_m5 83 rfl) rfl
theorem q1185 : (Jvm.Cond.methodLink "MirrorDoors" (89 : Nat) ({ cls := "java/util/ArrayDeque", name := "addLast", desc := "(Ljava/lang/Object;)V" } : Jvm.MethodName)) ∈ lw_all := lw_g (lw_at lw_m5 115 rfl) rfl
theorem q1204 : (Jvm.Cond.selects "MirrorDoors" ({ cls := "java/lang/Object", name := "getClass", desc := "()Ljava/lang/Class;" } : Jvm.MethodName) ({ cls := "java/lang/Object", name := "getClass", desc := "()Ljava/lang/Class;" } : Jvm.MethodName)) ∈ lw_all := lw_g (lw_at lw_m5 134 rfl) rfl
theorem q1232 : (Jvm.Cond.methodLink "MirrorDoors" (131 : Nat) ({ cls := "MirrorDoors$World", name := "all", desc := "(Z)Ljava/util/ArrayList;" } : Jvm.MethodName)) ∈ lw_all := lw_g (lw_at lw_m5 162 rfl) rfl
theorem q1279 : (Jvm.Cond.methodLink "MirrorDoors" (135 : Nat) ({ cls := "java/util/ArrayList", name := "size", desc := "()I" } : Jvm.MethodName)) ∈ lw_all := lw_g (lw_at lw_m5 209 rfl) rfl
theorem q1284 : (Jvm.Cond.instanceMethod ({ cls := "MirrorDoors", name := "pass", desc := "()I" } : Jvm.MethodName)) ∈ lw_all := lw_g (lw_at lw_m5 214 rfl) rfl
theorem q1285 : (Jvm.Cond.selects "MirrorDoors" ({ cls := "MirrorDoors", name := "pass", desc := "()I" } : Jvm.MethodName) ({ cls := "MirrorDoors", name := "pass", desc := "()I" } : Jvm.MethodName)) ∈ lw_all := lw_g (lw_at lw_m5 215 rfl) rfl
theorem q1286 : (Jvm.Cond.code ({ cls := "MirrorDoors", name := "pass", desc := "()I" } : Jvm.MethodName) prog_1_method_21_code (1 : Nat) (Option.some Jvm.ClassFile.FieldType.int)) ∈ lw_all := lw_g (lw_at lw_m5 216 rfl) rfl
theorem q1287 : (Jvm.Cond.methodLink "MirrorDoors" (205 : Nat) ({ cls := "MirrorDoors$World", name := "isOver", desc := "()Z" } : Jvm.MethodName)) ∈ lw_all := lw_g (lw_at lw_m5 217 rfl) rfl
theorem q1288 : (Jvm.Cond.methodLink "MirrorDoors" (209 : Nat) ({ cls := "MirrorDoors$World", name := "canTurn", desc := "()Z" } : Jvm.MethodName)) ∈ lw_all := lw_g (lw_at lw_m5 218 rfl) rfl
theorem q1296 : (Jvm.Cond.methodLink "MirrorDoors" (117 : Nat) ({ cls := "MirrorDoors", name := "change", desc := "()LMirrorDoors$World;" } : Jvm.MethodName)) ∈ lw_all := lw_g (lw_at lw_m5 226 rfl) rfl
theorem q1297 : (Jvm.Cond.privateMethod ({ cls := "MirrorDoors", name := "change", desc := "()LMirrorDoors$World;" } : Jvm.MethodName)) ∈ lw_tbl := lw_at lw_m5 227 rfl
theorem q1298 : (Jvm.Cond.instanceMethod ({ cls := "MirrorDoors", name := "change", desc := "()LMirrorDoors$World;" } : Jvm.MethodName)) ∈ lw_all := lw_g (lw_at lw_m5 228 rfl) rfl
theorem q1299 : (Jvm.Cond.code ({ cls := "MirrorDoors", name := "change", desc := "()LMirrorDoors$World;" } : Jvm.MethodName) prog_1_method_6_code (1 : Nat) (Option.some (Jvm.ClassFile.FieldType.object "MirrorDoors$World"))) ∈ lw_all := lw_g (lw_at lw_m5 229 rfl) rfl
theorem q1300 : (Jvm.Cond.methodLink "MirrorDoors" (93 : Nat) ({ cls := "MirrorDoors$World", name := "<init>", desc := "(LMirrorDoors$World;)V" } : Jvm.MethodName)) ∈ lw_all := lw_g (lw_at lw_m5 230 rfl) rfl
theorem q1328 : (Jvm.Cond.methodLink "MirrorDoors" (202 : Nat) ({ cls := "MirrorDoors$World", name := "moves", desc := "(LMirrorDoors$Mirror;)I" } : Jvm.MethodName)) ∈ lw_all := lw_g (lw_at lw_m6 18 rfl) rfl
theorem q1330 : (Jvm.Cond.instanceMethod ({ cls := "MirrorDoors", name := "undo", desc := "()I" } : Jvm.MethodName)) ∈ lw_all := lw_g (lw_at lw_m6 20 rfl) rfl
theorem q1331 : (Jvm.Cond.selects "MirrorDoors" ({ cls := "MirrorDoors", name := "undo", desc := "()I" } : Jvm.MethodName) ({ cls := "MirrorDoors", name := "undo", desc := "()I" } : Jvm.MethodName)) ∈ lw_all := lw_g (lw_at lw_m6 21 rfl) rfl
theorem q1332 : (Jvm.Cond.code ({ cls := "MirrorDoors", name := "undo", desc := "()I" } : Jvm.MethodName) prog_1_method_22_code (1 : Nat) (Option.some Jvm.ClassFile.FieldType.int)) ∈ lw_all := lw_g (lw_at lw_m6 22 rfl) rfl
theorem q1333 : (Jvm.Cond.methodLink "MirrorDoors" (212 : Nat) ({ cls := "java/util/ArrayDeque", name := "isEmpty", desc := "()Z" } : Jvm.MethodName)) ∈ lw_all := lw_g (lw_at lw_m6 23 rfl) rfl
theorem q1337 : (Jvm.Cond.methodLink "MirrorDoors" (214 : Nat) ({ cls := "java/util/ArrayDeque", name := "removeLast", desc := "()Ljava/lang/Object;" } : Jvm.MethodName)) ∈ lw_all := lw_g (lw_at lw_m6 27 rfl) rfl
theorem q1349 : (Jvm.Cond.instanceMethod ({ cls := "MirrorDoors", name := "append", desc := "(IIIII)I" } : Jvm.MethodName)) ∈ lw_all := lw_g (lw_at lw_m6 39 rfl) rfl
theorem q1350 : (Jvm.Cond.selects "MirrorDoors" ({ cls := "MirrorDoors", name := "append", desc := "(IIIII)I" } : Jvm.MethodName) ({ cls := "MirrorDoors", name := "append", desc := "(IIIII)I" } : Jvm.MethodName)) ∈ lw_all := lw_g (lw_at lw_m6 40 rfl) rfl
theorem q1351 : (Jvm.Cond.code ({ cls := "MirrorDoors", name := "append", desc := "(IIIII)I" } : Jvm.MethodName) prog_1_method_26_code (6 : Nat) (Option.some Jvm.ClassFile.FieldType.int)) ∈ lw_all := lw_g (lw_at lw_m6 41 rfl) rfl
theorem q1352 : (Jvm.Cond.methodLink "MirrorDoors" (220 : Nat) ({ cls := "MirrorDoors", name := "put", desc := "(I)V" } : Jvm.MethodName)) ∈ lw_all := lw_g (lw_at lw_m6 42 rfl) rfl
theorem q1353 : (Jvm.Cond.privateMethod ({ cls := "MirrorDoors", name := "put", desc := "(I)V" } : Jvm.MethodName)) ∈ lw_tbl := lw_at lw_m6 43 rfl
theorem q1354 : (Jvm.Cond.instanceMethod ({ cls := "MirrorDoors", name := "put", desc := "(I)V" } : Jvm.MethodName)) ∈ lw_all := lw_g (lw_at lw_m6 44 rfl) rfl
theorem q1355 : (Jvm.Cond.code ({ cls := "MirrorDoors", name := "put", desc := "(I)V" } : Jvm.MethodName) prog_1_method_25_code (3 : Nat) (Option.none : Option Jvm.ClassFile.FieldType)) ∈ lw_all := lw_g (lw_at lw_m6 45 rfl) rfl
theorem q1357 : (Jvm.Cond.instanceMethod ({ cls := "MirrorDoors", name := "gap", desc := "()I" } : Jvm.MethodName)) ∈ lw_all := lw_g (lw_at lw_m6 47 rfl) rfl
theorem q1358 : (Jvm.Cond.selects "MirrorDoors" ({ cls := "MirrorDoors", name := "gap", desc := "()I" } : Jvm.MethodName) ({ cls := "MirrorDoors", name := "gap", desc := "()I" } : Jvm.MethodName)) ∈ lw_all := lw_g (lw_at lw_m6 48 rfl) rfl
theorem q1359 : (Jvm.Cond.code ({ cls := "MirrorDoors", name := "gap", desc := "()I" } : Jvm.MethodName) prog_1_method_39_code (7 : Nat) (Option.some Jvm.ClassFile.FieldType.int)) ∈ lw_all := lw_g (lw_at lw_m6 49 rfl) rfl
theorem q1360 : (Jvm.Cond.methodLink "MirrorDoors" (240 : Nat) ({ cls := "MirrorDoors$World", name := "ray", desc := "()LMirrorDoors$Ray;" } : Jvm.MethodName)) ∈ lw_all := lw_g (lw_at lw_m6 50 rfl) rfl
theorem q1361 : (Jvm.Cond.methodLink "MirrorDoors" (321 : Nat) ({ cls := "MirrorDoors$Ray", name := "gap", desc := "()I" } : Jvm.MethodName)) ∈ lw_all := lw_g (lw_at lw_m6 51 rfl) rfl
theorem q1370 : (Jvm.Cond.methodLink "MirrorDoors" (281 : Nat) ({ cls := "MirrorDoors$Door", name := "isOpen", desc := "()Z" } : Jvm.MethodName)) ∈ lw_all := lw_g (lw_at lw_m6 60 rfl) rfl
theorem q1371 : (Jvm.Cond.methodLink "MirrorDoors" (234 : Nat) ({ cls := "MirrorDoors$World", name := "points", desc := "(I)I" } : Jvm.MethodName)) ∈ lw_all := lw_g (lw_at lw_m6 61 rfl) rfl
theorem q1372 : (Jvm.Cond.methodLink "MirrorDoors" (324 : Nat) ({ cls := "java/lang/Math", name := "abs", desc := "(I)I" } : Jvm.MethodName)) ∈ lw_all := lw_g (lw_at lw_m6 62 rfl) rfl
theorem q1376 : (Jvm.Cond.instanceMethod ({ cls := "MirrorDoors", name := "litShare", desc := "()F" } : Jvm.MethodName)) ∈ lw_all := lw_g (lw_at lw_m6 66 rfl) rfl
theorem q1377 : (Jvm.Cond.selects "MirrorDoors" ({ cls := "MirrorDoors", name := "litShare", desc := "()F" } : Jvm.MethodName) ({ cls := "MirrorDoors", name := "litShare", desc := "()F" } : Jvm.MethodName)) ∈ lw_all := lw_g (lw_at lw_m6 67 rfl) rfl
theorem q1378 : (Jvm.Cond.code ({ cls := "MirrorDoors", name := "litShare", desc := "()F" } : Jvm.MethodName) prog_1_method_46_code (1 : Nat) (Option.some Jvm.ClassFile.FieldType.float)) ∈ lw_all := lw_g (lw_at lw_m6 68 rfl) rfl
theorem q1379 : (Jvm.Cond.methodLink "MirrorDoors" (298 : Nat) ({ cls := "MirrorDoors", name := "lit", desc := "(Z)I" } : Jvm.MethodName)) ∈ lw_all := lw_g (lw_at lw_m6 69 rfl) rfl
theorem q1380 : (Jvm.Cond.privateMethod ({ cls := "MirrorDoors", name := "lit", desc := "(Z)I" } : Jvm.MethodName)) ∈ lw_tbl := lw_at lw_m6 70 rfl
theorem q1381 : (Jvm.Cond.instanceMethod ({ cls := "MirrorDoors", name := "lit", desc := "(Z)I" } : Jvm.MethodName)) ∈ lw_all := lw_g (lw_at lw_m6 71 rfl) rfl
theorem q1382 : (Jvm.Cond.code ({ cls := "MirrorDoors", name := "lit", desc := "(Z)I" } : Jvm.MethodName) prog_1_method_34_code (7 : Nat) (Option.some Jvm.ClassFile.FieldType.int)) ∈ lw_all := lw_g (lw_at lw_m6 72 rfl) rfl
theorem q1383 : (Jvm.Cond.methodLink "MirrorDoors" (243 : Nat) ({ cls := "MirrorDoors$Ray", name := "lights", desc := "(I)I" } : Jvm.MethodName)) ∈ lw_all := lw_g (lw_at lw_m6 73 rfl) rfl
theorem q1385 : (Jvm.Cond.instanceMethod ({ cls := "MirrorDoors", name := "meanSteps", desc := "()D" } : Jvm.MethodName)) ∈ lw_all := lw_g (lw_at lw_m6 75 rfl) rfl
theorem q1386 : (Jvm.Cond.selects "MirrorDoors" ({ cls := "MirrorDoors", name := "meanSteps", desc := "()D" } : Jvm.MethodName) ({ cls := "MirrorDoors", name := "meanSteps", desc := "()D" } : Jvm.MethodName)) ∈ lw_all := lw_g (lw_at lw_m6 76 rfl) rfl
theorem q1387 : (Jvm.Cond.code ({ cls := "MirrorDoors", name := "meanSteps", desc := "()D" } : Jvm.MethodName) prog_1_method_47_code (7 : Nat) (Option.some Jvm.ClassFile.FieldType.double)) ∈ lw_all := lw_g (lw_at lw_m6 77 rfl) rfl
theorem q1388 : (Jvm.Cond.methodLink "MirrorDoors" (318 : Nat) ({ cls := "MirrorDoors$Ray", name := "stepsTo", desc := "(I)I" } : Jvm.MethodName)) ∈ lw_all := lw_g (lw_at lw_m6 78 rfl) rfl
theorem q1394 : (Jvm.Cond.instanceMethod ({ cls := "MirrorDoors", name := "writeBoard", desc := "()I" } : Jvm.MethodName)) ∈ lw_all := lw_g (lw_at lw_m6 84 rfl) rfl
theorem q1395 : (Jvm.Cond.selects "MirrorDoors" ({ cls := "MirrorDoors", name := "writeBoard", desc := "()I" } : Jvm.MethodName) ({ cls := "MirrorDoors", name := "writeBoard", desc := "()I" } : Jvm.MethodName)) ∈ lw_all := lw_g (lw_at lw_m6 85 rfl) rfl
theorem q1396 : (Jvm.Cond.code ({ cls := "MirrorDoors", name := "writeBoard", desc := "()I" } : Jvm.MethodName) prog_1_method_49_code (4 : Nat) (Option.some Jvm.ClassFile.FieldType.int)) ∈ lw_all := lw_g (lw_at lw_m6 86 rfl) rfl
theorem q1397 : (Jvm.Cond.classLink "MirrorDoors" (355 : Nat) "java/lang/StringBuilder") ∈ lw_all := lw_g (lw_at lw_m6 87 rfl) rfl
theorem q1398 : (Jvm.Cond.methodLink "MirrorDoors" (357 : Nat) ({ cls := "java/lang/StringBuilder", name := "<init>", desc := "()V" } : Jvm.MethodName)) ∈ lw_all := lw_g (lw_at lw_m6 88 rfl) rfl
theorem q1399 : (Jvm.Cond.stringRef "MirrorDoors" (358 : Nat) "/") ∈ lw_tbl := lw_at lw_m6 89 rfl
theorem q1400 : (Jvm.Cond.methodLink "MirrorDoors" (360 : Nat) ({ cls := "java/lang/StringBuilder", name := "append", desc := "(Ljava/lang/String;)Ljava/lang/StringBuilder;" } : Jvm.MethodName)) ∈ lw_all := lw_g (lw_at lw_m6 90 rfl) rfl
theorem q1401 : (Jvm.Cond.methodLink "MirrorDoors" (364 : Nat) ({ cls := "MirrorDoors", name := "sign", desc := "(LMirrorDoors$Cell;)C" } : Jvm.MethodName)) ∈ lw_all := lw_g (lw_at lw_m6 91 rfl) rfl
theorem q1402 : (Jvm.Cond.privateMethod ({ cls := "MirrorDoors", name := "sign", desc := "(LMirrorDoors$Cell;)C" } : Jvm.MethodName)) ∈ lw_tbl := lw_at lw_m6 92 rfl
theorem q1403 : (Jvm.Cond.instanceMethod ({ cls := "MirrorDoors", name := "sign", desc := "(LMirrorDoors$Cell;)C" } : Jvm.MethodName)) ∈ lw_all := lw_g (lw_at lw_m6 93 rfl) rfl
theorem q1404 : (Jvm.Cond.code ({ cls := "MirrorDoors", name := "sign", desc := "(LMirrorDoors$Cell;)C" } : Jvm.MethodName) prog_1_method_48_code (2 : Nat) (Option.some Jvm.ClassFile.FieldType.char)) ∈ lw_all := lw_g (lw_at lw_m6 94 rfl) rfl
theorem q1405 : (Jvm.Cond.methodLink "MirrorDoors" (107 : Nat) ({ cls := "MirrorDoors$Cell", name := "kind", desc := "()I" } : Jvm.MethodName)) ∈ lw_all := lw_g (lw_at lw_m6 95 rfl) rfl
theorem q1406 : (Jvm.Cond.stringRef "MirrorDoors" (343 : Nat) "()") ∈ lw_tbl := lw_at lw_m6 96 rfl
theorem q1407 : (Jvm.Cond.methodLink "MirrorDoors" (183 : Nat) ({ cls := "MirrorDoors$Cell", name := "form", desc := "()I" } : Jvm.MethodName)) ∈ lw_all := lw_g (lw_at lw_m6 97 rfl) rfl
theorem q1408 : (Jvm.Cond.methodLink "MirrorDoors" (345 : Nat) ({ cls := "java/lang/String", name := "charAt", desc := "(I)C" } : Jvm.MethodName)) ∈ lw_all := lw_g (lw_at lw_m6 98 rfl) rfl
theorem q1419 : (Jvm.Cond.stringRef "MirrorDoors" (351 : Nat) "[]") ∈ lw_tbl := lw_at lw_m6 109 rfl
theorem q1420 : (Jvm.Cond.stringRef "MirrorDoors" (353 : Nat) "urdl") ∈ lw_tbl := lw_at lw_m6 110 rfl
theorem q1421 : (Jvm.Cond.methodLink "MirrorDoors" (368 : Nat) ({ cls := "java/lang/StringBuilder", name := "append", desc := "(C)Ljava/lang/StringBuilder;" } : Jvm.MethodName)) ∈ lw_all := lw_g (lw_at lw_m6 111 rfl) rfl
theorem q1422 : (Jvm.Cond.methodLink "MirrorDoors" (371 : Nat) ({ cls := "java/lang/StringBuilder", name := "toString", desc := "()Ljava/lang/String;" } : Jvm.MethodName)) ∈ lw_all := lw_g (lw_at lw_m6 112 rfl) rfl
theorem q1423 : (Jvm.Cond.methodLink "MirrorDoors" (375 : Nat) ({ cls := "java/lang/String", name := "length", desc := "()I" } : Jvm.MethodName)) ∈ lw_all := lw_g (lw_at lw_m6 113 rfl) rfl
theorem q1425 : (Jvm.Cond.instanceMethod ({ cls := "MirrorDoors", name := "reportByte", desc := "(I)I" } : Jvm.MethodName)) ∈ lw_all := lw_g (lw_at lw_m6 115 rfl) rfl
theorem q1426 : (Jvm.Cond.selects "MirrorDoors" ({ cls := "MirrorDoors", name := "reportByte", desc := "(I)I" } : Jvm.MethodName) ({ cls := "MirrorDoors", name := "reportByte", desc := "(I)I" } : Jvm.MethodName)) ∈ lw_all := lw_g (lw_at lw_m6 116 rfl) rfl
theorem q1427 : (Jvm.Cond.code ({ cls := "MirrorDoors", name := "reportByte", desc := "(I)I" } : Jvm.MethodName) prog_1_method_50_code (2 : Nat) (Option.some Jvm.ClassFile.FieldType.int)) ∈ lw_all := lw_g (lw_at lw_m6 117 rfl) rfl
theorem q1428 : (Jvm.Cond.methodLink "MirrorDoors" (165 : Nat) ({ cls := "MirrorDoors", name := "isIn", desc := "(III)Z" } : Jvm.MethodName)) ∈ lw_all := lw_g (lw_at lw_m6 118 rfl) rfl
theorem q1452 : (Jvm.Cond.instanceMethod ({ cls := "MirrorDoors", name := "putWall", desc := "(II)I" } : Jvm.MethodName)) ∈ lw_all := lw_g (lw_at lw_m6 142 rfl) rfl
theorem q1453 : (Jvm.Cond.selects "MirrorDoors" ({ cls := "MirrorDoors", name := "putWall", desc := "(II)I" } : Jvm.MethodName) ({ cls := "MirrorDoors", name := "putWall", desc := "(II)I" } : Jvm.MethodName)) ∈ lw_all := lw_g (lw_at lw_m6 143 rfl) rfl
theorem q1454 : (Jvm.Cond.code ({ cls := "MirrorDoors", name := "putWall", desc := "(II)I" } : Jvm.MethodName) prog_1_method_12_code (5 : Nat) (Option.some Jvm.ClassFile.FieldType.int)) ∈ lw_all := lw_g (lw_at lw_m6 144 rfl) rfl
theorem q1455 : (Jvm.Cond.methodLink "MirrorDoors" (146 : Nat) ({ cls := "MirrorDoors", name := "cellOf", desc := "(II)I" } : Jvm.MethodName)) ∈ lw_all := lw_g (lw_at lw_m6 145 rfl) rfl
theorem q1456 : (Jvm.Cond.privateMethod ({ cls := "MirrorDoors", name := "cellOf", desc := "(II)I" } : Jvm.MethodName)) ∈ lw_tbl := lw_at lw_m6 146 rfl
theorem q1457 : (Jvm.Cond.instanceMethod ({ cls := "MirrorDoors", name := "cellOf", desc := "(II)I" } : Jvm.MethodName)) ∈ lw_all := lw_g (lw_at lw_m6 147 rfl) rfl
theorem q1458 : (Jvm.Cond.code ({ cls := "MirrorDoors", name := "cellOf", desc := "(II)I" } : Jvm.MethodName) prog_1_method_7_code (3 : Nat) (Option.some Jvm.ClassFile.FieldType.int)) ∈ lw_all := lw_g (lw_at lw_m6 148 rfl) rfl
theorem q1459 : (Jvm.Cond.methodLink "MirrorDoors" (100 : Nat) ({ cls := "MirrorDoors$World", name := "isOn", desc := "(II)Z" } : Jvm.MethodName)) ∈ lw_all := lw_g (lw_at lw_m6 149 rfl) rfl
theorem q1460 : (Jvm.Cond.classLink "MirrorDoors" (104 : Nat) "java/lang/IndexOutOfBoundsException") ∈ lw_all := lw_g (lw_at lw_m6 150 rfl) rfl
theorem q1469 : (Jvm.Cond.methodLink "MirrorDoors" (106 : Nat) ({ cls := "java/lang/IndexOutOfBoundsException", name := "<init>", desc := "()V" } : Jvm.MethodName)) ∈ lw_all := lw_g (lw_at lw_m6 159 rfl) rfl
theorem q1475 : (Jvm.Cond.methodLink "MirrorDoors" (150 : Nat) ({ cls := "MirrorDoors", name := "whyNotLay", desc := "(IZ)I" } : Jvm.MethodName)) ∈ lw_all := lw_g (lw_at lw_m6 165 rfl) rfl
theorem q1476 : (Jvm.Cond.privateMethod ({ cls := "MirrorDoors", name := "whyNotLay", desc := "(IZ)I" } : Jvm.MethodName)) ∈ lw_tbl := lw_at lw_m6 166 rfl
theorem q1477 : (Jvm.Cond.instanceMethod ({ cls := "MirrorDoors", name := "whyNotLay", desc := "(IZ)I" } : Jvm.MethodName)) ∈ lw_all := lw_g (lw_at lw_m6 167 rfl) rfl
theorem q1478 : (Jvm.Cond.code ({ cls := "MirrorDoors", name := "whyNotLay", desc := "(IZ)I" } : Jvm.MethodName) prog_1_method_9_code (3 : Nat) (Option.some Jvm.ClassFile.FieldType.int)) ∈ lw_all := lw_g (lw_at lw_m6 168 rfl) rfl
theorem q1479 : (Jvm.Cond.methodLink "MirrorDoors" (113 : Nat) ({ cls := "MirrorDoors", name := "isEmpty", desc := "(I)Z" } : Jvm.MethodName)) ∈ lw_all := lw_g (lw_at lw_m6 169 rfl) rfl
theorem q1480 : (Jvm.Cond.privateMethod ({ cls := "MirrorDoors", name := "isEmpty", desc := "(I)Z" } : Jvm.MethodName)) ∈ lw_tbl := lw_at lw_m6 170 rfl
theorem q1481 : (Jvm.Cond.instanceMethod ({ cls := "MirrorDoors", name := "isEmpty", desc := "(I)Z" } : Jvm.MethodName)) ∈ lw_all := lw_g (lw_at lw_m6 171 rfl) rfl
theorem q1482 : (Jvm.Cond.code ({ cls := "MirrorDoors", name := "isEmpty", desc := "(I)Z" } : Jvm.MethodName) prog_1_method_8_code (2 : Nat) (Option.some Jvm.ClassFile.FieldType.boolean)) ∈ lw_all := lw_g (lw_at lw_m6 172 rfl) rfl
theorem q1483 : (Jvm.Cond.classLink "MirrorDoors" (154 : Nat) "MirrorDoors$Solid") ∈ lw_all := lw_g (lw_at lw_m6 173 rfl) rfl
theorem q1484 : (Jvm.Cond.methodLink "MirrorDoors" (156 : Nat) ({ cls := "MirrorDoors$Solid", name := "<init>", desc := "(I)V" } : Jvm.MethodName)) ∈ lw_all := lw_g (lw_at lw_m6 174 rfl) rfl
theorem q1485 : (Jvm.Cond.methodLink "MirrorDoors" (157 : Nat) ({ cls := "MirrorDoors", name := "put", desc := "([LMirrorDoors$Cell;)LMirrorDoors$World;" } : Jvm.MethodName)) ∈ lw_all := lw_g (lw_at lw_m6 175 rfl) rfl
theorem q1486 : (Jvm.Cond.privateMethod ({ cls := "MirrorDoors", name := "put", desc := "([LMirrorDoors$Cell;)LMirrorDoors$World;" } : Jvm.MethodName)) ∈ lw_tbl := lw_at lw_m6 176 rfl
theorem q1487 : (Jvm.Cond.instanceMethod ({ cls := "MirrorDoors", name := "put", desc := "([LMirrorDoors$Cell;)LMirrorDoors$World;" } : Jvm.MethodName)) ∈ lw_all := lw_g (lw_at lw_m6 177 rfl) rfl
theorem q1488 : (Jvm.Cond.code ({ cls := "MirrorDoors", name := "put", desc := "([LMirrorDoors$Cell;)LMirrorDoors$World;" } : Jvm.MethodName) prog_1_method_10_code (3 : Nat) (Option.some (Jvm.ClassFile.FieldType.object "MirrorDoors$World"))) ∈ lw_all := lw_g (lw_at lw_m6 178 rfl) rfl
theorem q1489 : (Jvm.Cond.methodLink "MirrorDoors" (161 : Nat) ({ cls := "MirrorDoors$World", name := "many", desc := "(I)I" } : Jvm.MethodName)) ∈ lw_all := lw_g (lw_at lw_m6 179 rfl) rfl
theorem q1495 : (Jvm.Cond.instanceMethod ({ cls := "MirrorDoors", name := "putMirror", desc := "(IIZII)I" } : Jvm.MethodName)) ∈ lw_all := lw_g (lw_at lw_m6 185 rfl) rfl
theorem q1496 : (Jvm.Cond.selects "MirrorDoors" ({ cls := "MirrorDoors", name := "putMirror", desc := "(IIZII)I" } : Jvm.MethodName) ({ cls := "MirrorDoors", name := "putMirror", desc := "(IIZII)I" } : Jvm.MethodName)) ∈ lw_all := lw_g (lw_at lw_m6 186 rfl) rfl
theorem q1497 : (Jvm.Cond.code ({ cls := "MirrorDoors", name := "putMirror", desc := "(IIZII)I" } : Jvm.MethodName) prog_1_method_13_code (9 : Nat) (Option.some Jvm.ClassFile.FieldType.int)) ∈ lw_all := lw_g (lw_at lw_m6 187 rfl) rfl
theorem q1498 : (Jvm.Cond.methodLink "MirrorDoors" (169 : Nat) ({ cls := "MirrorDoors", name := "ask", desc := "(Z)V" } : Jvm.MethodName)) ∈ lw_all := lw_g (lw_at lw_m6 188 rfl) rfl
theorem q1499 : (Jvm.Cond.static ({ cls := "MirrorDoors", name := "ask", desc := "(Z)V" } : Jvm.MethodName)) ∈ lw_all := lw_g (lw_at lw_m6 189 rfl) rfl
theorem q1500 : (Jvm.Cond.code ({ cls := "MirrorDoors", name := "ask", desc := "(Z)V" } : Jvm.MethodName) prog_1_method_2_code (1 : Nat) (Option.none : Option Jvm.ClassFile.FieldType)) ∈ lw_all := lw_g (lw_at lw_m6 190 rfl) rfl
theorem q1501 : (Jvm.Cond.classLink "MirrorDoors" (1 : Nat) "java/lang/IllegalArgumentException") ∈ lw_all := lw_g (lw_at lw_m6 191 rfl) rfl
theorem q1502 : (Jvm.Cond.methodLink "MirrorDoors" (3 : Nat) ({ cls := "java/lang/IllegalArgumentException", name := "<init>", desc := "()V" } : Jvm.MethodName)) ∈ lw_all := lw_g (lw_at lw_m6 192 rfl) rfl
theorem q1506 : (Jvm.Cond.methodLink "MirrorDoors" (173 : Nat) ({ cls := "MirrorDoors$World", name := "numberOf", desc := "(LMirrorDoors$Cell;)I" } : Jvm.MethodName)) ∈ lw_all := lw_g (lw_at lw_m6 196 rfl) rfl
theorem q1523 : (Jvm.Cond.selects "MirrorDoors" ({ cls := "java/lang/Object", name := "equals", desc := "(Ljava/lang/Object;)Z" } : Jvm.MethodName) ({ cls := "java/lang/Object", name := "equals", desc := "(Ljava/lang/Object;)Z" } : Jvm.MethodName)) ∈ lw_all := lw_g (lw_at lw_m6 213 rfl) rfl
theorem q1546 : (Jvm.Cond.instanceMethod ({ cls := "MirrorDoors", name := "putDoor", desc := "(III)I" } : Jvm.MethodName)) ∈ lw_all := lw_g (lw_at lw_m6 236 rfl) rfl
theorem q1547 : (Jvm.Cond.selects "MirrorDoors" ({ cls := "MirrorDoors", name := "putDoor", desc := "(III)I" } : Jvm.MethodName) ({ cls := "MirrorDoors", name := "putDoor", desc := "(III)I" } : Jvm.MethodName)) ∈ lw_all := lw_g (lw_at lw_m6 237 rfl) rfl
theorem q1548 : (Jvm.Cond.code ({ cls := "MirrorDoors", name := "putDoor", desc := "(III)I" } : Jvm.MethodName) prog_1_method_14_code (7 : Nat) (Option.some Jvm.ClassFile.FieldType.int)) ∈ lw_all := lw_g (lw_at lw_m6 238 rfl) rfl
theorem q1553 : (Jvm.Cond.instanceMethod ({ cls := "MirrorDoors", name := "putGate", desc := "(III)I" } : Jvm.MethodName)) ∈ lw_all := lw_g (lw_at lw_m7 3 rfl) rfl
theorem q1554 : (Jvm.Cond.selects "MirrorDoors" ({ cls := "MirrorDoors", name := "putGate", desc := "(III)I" } : Jvm.MethodName) ({ cls := "MirrorDoors", name := "putGate", desc := "(III)I" } : Jvm.MethodName)) ∈ lw_all := lw_g (lw_at lw_m7 4 rfl) rfl
theorem q1555 : (Jvm.Cond.code ({ cls := "MirrorDoors", name := "putGate", desc := "(III)I" } : Jvm.MethodName) prog_1_method_15_code (6 : Nat) (Option.some Jvm.ClassFile.FieldType.int)) ∈ lw_all := lw_g (lw_at lw_m7 5 rfl) rfl
theorem q1556 : (Jvm.Cond.classLink "MirrorDoors" (177 : Nat) "MirrorDoors$Gate") ∈ lw_all := lw_g (lw_at lw_m7 6 rfl) rfl
theorem q1557 : (Jvm.Cond.methodLink "MirrorDoors" (179 : Nat) ({ cls := "MirrorDoors$Gate", name := "<init>", desc := "(II)V" } : Jvm.MethodName)) ∈ lw_all := lw_g (lw_at lw_m7 7 rfl) rfl
theorem q1562 : (Jvm.Cond.instanceMethod ({ cls := "MirrorDoors", name := "putPortals", desc := "(IIII)I" } : Jvm.MethodName)) ∈ lw_all := lw_g (lw_at lw_m7 12 rfl) rfl
theorem q1563 : (Jvm.Cond.selects "MirrorDoors" ({ cls := "MirrorDoors", name := "putPortals", desc := "(IIII)I" } : Jvm.MethodName) ({ cls := "MirrorDoors", name := "putPortals", desc := "(IIII)I" } : Jvm.MethodName)) ∈ lw_all := lw_g (lw_at lw_m7 13 rfl) rfl
theorem q1564 : (Jvm.Cond.code ({ cls := "MirrorDoors", name := "putPortals", desc := "(IIII)I" } : Jvm.MethodName) prog_1_method_16_code (8 : Nat) (Option.some Jvm.ClassFile.FieldType.int)) ∈ lw_all := lw_g (lw_at lw_m7 14 rfl) rfl
theorem q1565 : (Jvm.Cond.classLink "MirrorDoors" (180 : Nat) "MirrorDoors$Portal") ∈ lw_all := lw_g (lw_at lw_m7 15 rfl) rfl
theorem q1566 : (Jvm.Cond.methodLink "MirrorDoors" (182 : Nat) ({ cls := "MirrorDoors$Portal", name := "<init>", desc := "(II)V" } : Jvm.MethodName)) ∈ lw_all := lw_g (lw_at lw_m7 16 rfl) rfl
theorem q1571 : (Jvm.Cond.instanceMethod ({ cls := "MirrorDoors", name := "clear", desc := "(II)I" } : Jvm.MethodName)) ∈ lw_all := lw_g (lw_at lw_m7 21 rfl) rfl
theorem q1572 : (Jvm.Cond.selects "MirrorDoors" ({ cls := "MirrorDoors", name := "clear", desc := "(II)I" } : Jvm.MethodName) ({ cls := "MirrorDoors", name := "clear", desc := "(II)I" } : Jvm.MethodName)) ∈ lw_all := lw_g (lw_at lw_m7 22 rfl) rfl
theorem q1573 : (Jvm.Cond.code ({ cls := "MirrorDoors", name := "clear", desc := "(II)I" } : Jvm.MethodName) prog_1_method_17_code (6 : Nat) (Option.some Jvm.ClassFile.FieldType.int)) ∈ lw_all := lw_g (lw_at lw_m7 23 rfl) rfl
theorem q1574 : (Jvm.Cond.classLink "MirrorDoors" (186 : Nat) "MirrorDoors$Empty") ∈ lw_all := lw_g (lw_at lw_m7 24 rfl) rfl
theorem q1575 : (Jvm.Cond.methodLink "MirrorDoors" (188 : Nat) ({ cls := "MirrorDoors$Empty", name := "<init>", desc := "(I)V" } : Jvm.MethodName)) ∈ lw_all := lw_g (lw_at lw_m7 25 rfl) rfl
theorem q1580 : (Jvm.Cond.instanceMethod ({ cls := "MirrorDoors", name := "setLamp", desc := "(III)I" } : Jvm.MethodName)) ∈ lw_all := lw_g (lw_at lw_m7 30 rfl) rfl
theorem q1581 : (Jvm.Cond.selects "MirrorDoors" ({ cls := "MirrorDoors", name := "setLamp", desc := "(III)I" } : Jvm.MethodName) ({ cls := "MirrorDoors", name := "setLamp", desc := "(III)I" } : Jvm.MethodName)) ∈ lw_all := lw_g (lw_at lw_m7 31 rfl) rfl
theorem q1582 : (Jvm.Cond.code ({ cls := "MirrorDoors", name := "setLamp", desc := "(III)I" } : Jvm.MethodName) prog_1_method_18_code (7 : Nat) (Option.some Jvm.ClassFile.FieldType.int)) ∈ lw_all := lw_g (lw_at lw_m7 32 rfl) rfl
theorem q1583 : (Jvm.Cond.methodLink "MirrorDoors" (192 : Nat) ({ cls := "MirrorDoors$World", name := "lampDirection", desc := "()I" } : Jvm.MethodName)) ∈ lw_all := lw_g (lw_at lw_m7 33 rfl) rfl
theorem q1584 : (Jvm.Cond.methodLink "MirrorDoors" (195 : Nat) ({ cls := "MirrorDoors$Solid", name := "<init>", desc := "(II)V" } : Jvm.MethodName)) ∈ lw_all := lw_g (lw_at lw_m7 34 rfl) rfl
theorem q1589 : (Jvm.Cond.instanceMethod ({ cls := "MirrorDoors", name := "set", desc := "(ZI)I" } : Jvm.MethodName)) ∈ lw_all := lw_g (lw_at lw_m7 39 rfl) rfl
theorem q1590 : (Jvm.Cond.selects "MirrorDoors" ({ cls := "MirrorDoors", name := "set", desc := "(ZI)I" } : Jvm.MethodName) ({ cls := "MirrorDoors", name := "set", desc := "(ZI)I" } : Jvm.MethodName)) ∈ lw_all := lw_g (lw_at lw_m7 40 rfl) rfl
theorem q1591 : (Jvm.Cond.code ({ cls := "MirrorDoors", name := "set", desc := "(ZI)I" } : Jvm.MethodName) prog_1_method_19_code (5 : Nat) (Option.some Jvm.ClassFile.FieldType.int)) ∈ lw_all := lw_g (lw_at lw_m7 41 rfl) rfl
theorem q1596 : (Jvm.Cond.instanceMethod ({ cls := "MirrorDoors", name := "turn", desc := "(II)I" } : Jvm.MethodName)) ∈ lw_all := lw_g (lw_at lw_m7 46 rfl) rfl
theorem q1597 : (Jvm.Cond.selects "MirrorDoors" ({ cls := "MirrorDoors", name := "turn", desc := "(II)I" } : Jvm.MethodName) ({ cls := "MirrorDoors", name := "turn", desc := "(II)I" } : Jvm.MethodName)) ∈ lw_all := lw_g (lw_at lw_m7 47 rfl) rfl
theorem q1598 : (Jvm.Cond.code ({ cls := "MirrorDoors", name := "turn", desc := "(II)I" } : Jvm.MethodName) prog_1_method_20_code (6 : Nat) (Option.some Jvm.ClassFile.FieldType.int)) ∈ lw_all := lw_g (lw_at lw_m7 48 rfl) rfl
theorem q1599 : (Jvm.Cond.methodLink "MirrorDoors" (199 : Nat) ({ cls := "MirrorDoors$World", name := "whyNotTurn", desc := "(I)I" } : Jvm.MethodName)) ∈ lw_all := lw_g (lw_at lw_m7 49 rfl) rfl
theorem q1604 : (Jvm.Cond.instanceMethod ({ cls := "MirrorDoors", name := "keep", desc := "(I)I" } : Jvm.MethodName)) ∈ lw_all := lw_g (lw_at lw_m7 54 rfl) rfl
theorem q1605 : (Jvm.Cond.selects "MirrorDoors" ({ cls := "MirrorDoors", name := "keep", desc := "(I)I" } : Jvm.MethodName) ({ cls := "MirrorDoors", name := "keep", desc := "(I)I" } : Jvm.MethodName)) ∈ lw_all := lw_g (lw_at lw_m7 55 rfl) rfl
theorem q1606 : (Jvm.Cond.code ({ cls := "MirrorDoors", name := "keep", desc := "(I)I" } : Jvm.MethodName) prog_1_method_23_code (2 : Nat) (Option.some Jvm.ClassFile.FieldType.int)) ∈ lw_all := lw_g (lw_at lw_m7 56 rfl) rfl
theorem q1611 : (Jvm.Cond.instanceMethod ({ cls := "MirrorDoors", name := "restore", desc := "(I)I" } : Jvm.MethodName)) ∈ lw_all := lw_g (lw_at lw_m7 61 rfl) rfl
theorem q1612 : (Jvm.Cond.selects "MirrorDoors" ({ cls := "MirrorDoors", name := "restore", desc := "(I)I" } : Jvm.MethodName) ({ cls := "MirrorDoors", name := "restore", desc := "(I)I" } : Jvm.MethodName)) ∈ lw_all := lw_g (lw_at lw_m7 62 rfl) rfl
theorem q1613 : (Jvm.Cond.code ({ cls := "MirrorDoors", name := "restore", desc := "(I)I" } : Jvm.MethodName) prog_1_method_24_code (2 : Nat) (Option.some Jvm.ClassFile.FieldType.int)) ∈ lw_all := lw_g (lw_at lw_m7 63 rfl) rfl
theorem q1614 : (Jvm.Cond.methodLink "MirrorDoors" (217 : Nat) ({ cls := "java/util/ArrayDeque", name := "clear", desc := "()V" } : Jvm.MethodName)) ∈ lw_all := lw_g (lw_at lw_m7 64 rfl) rfl
theorem q1625 : (Jvm.Cond.instanceMethod ({ cls := "MirrorDoors", name := "truncate", desc := "(I)I" } : Jvm.MethodName)) ∈ lw_all := lw_g (lw_at lw_m7 75 rfl) rfl
theorem q1626 : (Jvm.Cond.selects "MirrorDoors" ({ cls := "MirrorDoors", name := "truncate", desc := "(I)I" } : Jvm.MethodName) ({ cls := "MirrorDoors", name := "truncate", desc := "(I)I" } : Jvm.MethodName)) ∈ lw_all := lw_g (lw_at lw_m7 76 rfl) rfl
theorem q1627 : (Jvm.Cond.code ({ cls := "MirrorDoors", name := "truncate", desc := "(I)I" } : Jvm.MethodName) prog_1_method_27_code (2 : Nat) (Option.some Jvm.ClassFile.FieldType.int)) ∈ lw_all := lw_g (lw_at lw_m7 77 rfl) rfl
theorem q1632 : (Jvm.Cond.instanceMethod ({ cls := "MirrorDoors", name := "board", desc := "(I)I" } : Jvm.MethodName)) ∈ lw_all := lw_g (lw_at lw_m7 82 rfl) rfl
theorem q1633 : (Jvm.Cond.selects "MirrorDoors" ({ cls := "MirrorDoors", name := "board", desc := "(I)I" } : Jvm.MethodName) ({ cls := "MirrorDoors", name := "board", desc := "(I)I" } : Jvm.MethodName)) ∈ lw_all := lw_g (lw_at lw_m7 83 rfl) rfl
theorem q1634 : (Jvm.Cond.code ({ cls := "MirrorDoors", name := "board", desc := "(I)I" } : Jvm.MethodName) prog_1_method_28_code (2 : Nat) (Option.some Jvm.ClassFile.FieldType.int)) ∈ lw_all := lw_g (lw_at lw_m7 84 rfl) rfl
theorem q1635 : (Jvm.Cond.methodLink "MirrorDoors" (228 : Nat) ({ cls := "MirrorDoors$World", name := "mover", desc := "()I" } : Jvm.MethodName)) ∈ lw_all := lw_g (lw_at lw_m7 85 rfl) rfl
theorem q1636 : (Jvm.Cond.methodLink "MirrorDoors" (231 : Nat) ({ cls := "MirrorDoors$World", name := "winner", desc := "()I" } : Jvm.MethodName)) ∈ lw_all := lw_g (lw_at lw_m7 86 rfl) rfl
theorem q1644 : (Jvm.Cond.instanceMethod ({ cls := "MirrorDoors", name := "cell", desc := "(III)I" } : Jvm.MethodName)) ∈ lw_all := lw_g (lw_at lw_m7 94 rfl) rfl
theorem q1645 : (Jvm.Cond.selects "MirrorDoors" ({ cls := "MirrorDoors", name := "cell", desc := "(III)I" } : Jvm.MethodName) ({ cls := "MirrorDoors", name := "cell", desc := "(III)I" } : Jvm.MethodName)) ∈ lw_all := lw_g (lw_at lw_m7 95 rfl) rfl
theorem q1646 : (Jvm.Cond.code ({ cls := "MirrorDoors", name := "cell", desc := "(III)I" } : Jvm.MethodName) prog_1_method_29_code (5 : Nat) (Option.some Jvm.ClassFile.FieldType.int)) ∈ lw_all := lw_g (lw_at lw_m7 96 rfl) rfl
theorem q1647 : (Jvm.Cond.methodLink "MirrorDoors" (237 : Nat) ({ cls := "MirrorDoors$Cell", name := "owner", desc := "()I" } : Jvm.MethodName)) ∈ lw_all := lw_g (lw_at lw_m7 97 rfl) rfl
theorem q1653 : (Jvm.Cond.instanceMethod ({ cls := "MirrorDoors", name := "mirror", desc := "(II)I" } : Jvm.MethodName)) ∈ lw_all := lw_g (lw_at lw_m7 103 rfl) rfl
theorem q1654 : (Jvm.Cond.selects "MirrorDoors" ({ cls := "MirrorDoors", name := "mirror", desc := "(II)I" } : Jvm.MethodName) ({ cls := "MirrorDoors", name := "mirror", desc := "(II)I" } : Jvm.MethodName)) ∈ lw_all := lw_g (lw_at lw_m7 104 rfl) rfl
theorem q1655 : (Jvm.Cond.code ({ cls := "MirrorDoors", name := "mirror", desc := "(II)I" } : Jvm.MethodName) prog_1_method_32_code (4 : Nat) (Option.some Jvm.ClassFile.FieldType.int)) ∈ lw_all := lw_g (lw_at lw_m7 105 rfl) rfl
theorem q1656 : (Jvm.Cond.methodLink "MirrorDoors" (258 : Nat) ({ cls := "MirrorDoors", name := "thing", desc := "(ZI)LMirrorDoors$Cell;" } : Jvm.MethodName)) ∈ lw_all := lw_g (lw_at lw_m7 106 rfl) rfl
theorem q1657 : (Jvm.Cond.privateMethod ({ cls := "MirrorDoors", name := "thing", desc := "(ZI)LMirrorDoors$Cell;" } : Jvm.MethodName)) ∈ lw_tbl := lw_at lw_m7 107 rfl
theorem q1658 : (Jvm.Cond.instanceMethod ({ cls := "MirrorDoors", name := "thing", desc := "(ZI)LMirrorDoors$Cell;" } : Jvm.MethodName)) ∈ lw_all := lw_g (lw_at lw_m7 108 rfl) rfl
theorem q1659 : (Jvm.Cond.code ({ cls := "MirrorDoors", name := "thing", desc := "(ZI)LMirrorDoors$Cell;" } : Jvm.MethodName) prog_1_method_30_code (4 : Nat) (Option.some (Jvm.ClassFile.FieldType.object "MirrorDoors$Cell"))) ∈ lw_all := lw_g (lw_at lw_m7 109 rfl) rfl
theorem q1660 : (Jvm.Cond.classLink "MirrorDoors" (246 : Nat) "java/util/NoSuchElementException") ∈ lw_all := lw_g (lw_at lw_m7 110 rfl) rfl
theorem q1661 : (Jvm.Cond.methodLink "MirrorDoors" (248 : Nat) ({ cls := "java/util/NoSuchElementException", name := "<init>", desc := "()V" } : Jvm.MethodName)) ∈ lw_all := lw_g (lw_at lw_m7 111 rfl) rfl
theorem q1662 : (Jvm.Cond.methodLink "MirrorDoors" (249 : Nat) ({ cls := "java/util/ArrayList", name := "get", desc := "(I)Ljava/lang/Object;" } : Jvm.MethodName)) ∈ lw_all := lw_g (lw_at lw_m7 112 rfl) rfl
theorem q1674 : (Jvm.Cond.methodLink "MirrorDoors" (276 : Nat) ({ cls := "MirrorDoors", name := "beamsAt", desc := "(I)I" } : Jvm.MethodName)) ∈ lw_all := lw_g (lw_at lw_m7 124 rfl) rfl
theorem q1675 : (Jvm.Cond.privateMethod ({ cls := "MirrorDoors", name := "beamsAt", desc := "(I)I" } : Jvm.MethodName)) ∈ lw_tbl := lw_at lw_m7 125 rfl
theorem q1676 : (Jvm.Cond.instanceMethod ({ cls := "MirrorDoors", name := "beamsAt", desc := "(I)I" } : Jvm.MethodName)) ∈ lw_all := lw_g (lw_at lw_m7 126 rfl) rfl
theorem q1677 : (Jvm.Cond.code ({ cls := "MirrorDoors", name := "beamsAt", desc := "(I)I" } : Jvm.MethodName) prog_1_method_31_code (2 : Nat) (Option.some Jvm.ClassFile.FieldType.int)) ∈ lw_all := lw_g (lw_at lw_m7 127 rfl) rfl
theorem q1678 : (Jvm.Cond.methodLink "MirrorDoors" (253 : Nat) ({ cls := "java/lang/Integer", name := "bitCount", desc := "(I)I" } : Jvm.MethodName)) ∈ lw_all := lw_g (lw_at lw_m7 128 rfl) rfl
theorem q1688 : (Jvm.Cond.instanceMethod ({ cls := "MirrorDoors", name := "door", desc := "(II)I" } : Jvm.MethodName)) ∈ lw_all := lw_g (lw_at lw_m7 138 rfl) rfl
theorem q1689 : (Jvm.Cond.selects "MirrorDoors" ({ cls := "MirrorDoors", name := "door", desc := "(II)I" } : Jvm.MethodName) ({ cls := "MirrorDoors", name := "door", desc := "(II)I" } : Jvm.MethodName)) ∈ lw_all := lw_g (lw_at lw_m7 139 rfl) rfl
theorem q1690 : (Jvm.Cond.code ({ cls := "MirrorDoors", name := "door", desc := "(II)I" } : Jvm.MethodName) prog_1_method_33_code (4 : Nat) (Option.some Jvm.ClassFile.FieldType.int)) ∈ lw_all := lw_g (lw_at lw_m7 140 rfl) rfl
theorem q1695 : (Jvm.Cond.instanceMethod ({ cls := "MirrorDoors", name := "ray", desc := "(I)I" } : Jvm.MethodName)) ∈ lw_all := lw_g (lw_at lw_m7 145 rfl) rfl
theorem q1696 : (Jvm.Cond.selects "MirrorDoors" ({ cls := "MirrorDoors", name := "ray", desc := "(I)I" } : Jvm.MethodName) ({ cls := "MirrorDoors", name := "ray", desc := "(I)I" } : Jvm.MethodName)) ∈ lw_all := lw_g (lw_at lw_m7 146 rfl) rfl
theorem q1697 : (Jvm.Cond.code ({ cls := "MirrorDoors", name := "ray", desc := "(I)I" } : Jvm.MethodName) prog_1_method_35_code (2 : Nat) (Option.some Jvm.ClassFile.FieldType.int)) ∈ lw_all := lw_g (lw_at lw_m7 147 rfl) rfl
theorem q1698 : (Jvm.Cond.methodLink "MirrorDoors" (289 : Nat) ({ cls := "MirrorDoors$Ray", name := "inRings", desc := "()I" } : Jvm.MethodName)) ∈ lw_all := lw_g (lw_at lw_m7 148 rfl) rfl
theorem q1706 : (Jvm.Cond.methodLink "MirrorDoors" (295 : Nat) ({ cls := "MirrorDoors$World", name := "hits", desc := "()I" } : Jvm.MethodName)) ∈ lw_all := lw_g (lw_at lw_m7 156 rfl) rfl
theorem q1710 : (Jvm.Cond.methodLink "MirrorDoors" (302 : Nat) ({ cls := "MirrorDoors$Ray", name := "stopped", desc := "()I" } : Jvm.MethodName)) ∈ lw_all := lw_g (lw_at lw_m7 160 rfl) rfl
theorem q1716 : (Jvm.Cond.methodLink "MirrorDoors" (305 : Nat) ({ cls := "MirrorDoors$Ray", name := "mostFollowing", desc := "()I" } : Jvm.MethodName)) ∈ lw_all := lw_g (lw_at lw_m7 166 rfl) rfl
theorem q1724 : (Jvm.Cond.instanceMethod ({ cls := "MirrorDoors", name := "beam", desc := "(II)I" } : Jvm.MethodName)) ∈ lw_all := lw_g (lw_at lw_m7 174 rfl) rfl
theorem q1725 : (Jvm.Cond.selects "MirrorDoors" ({ cls := "MirrorDoors", name := "beam", desc := "(II)I" } : Jvm.MethodName) ({ cls := "MirrorDoors", name := "beam", desc := "(II)I" } : Jvm.MethodName)) ∈ lw_all := lw_g (lw_at lw_m7 175 rfl) rfl
theorem q1726 : (Jvm.Cond.code ({ cls := "MirrorDoors", name := "beam", desc := "(II)I" } : Jvm.MethodName) prog_1_method_36_code (4 : Nat) (Option.some Jvm.ClassFile.FieldType.int)) ∈ lw_all := lw_g (lw_at lw_m7 176 rfl) rfl
theorem q1727 : (Jvm.Cond.methodLink "MirrorDoors" (312 : Nat) ({ cls := "MirrorDoors$Ray", name := "isInRing", desc := "(I)Z" } : Jvm.MethodName)) ∈ lw_all := lw_g (lw_at lw_m7 177 rfl) rfl
theorem q1728 : (Jvm.Cond.methodLink "MirrorDoors" (315 : Nat) ({ cls := "MirrorDoors$Ray", name := "follow", desc := "(I)I" } : Jvm.MethodName)) ∈ lw_all := lw_g (lw_at lw_m7 178 rfl) rfl
theorem q1733 : (Jvm.Cond.instanceMethod ({ cls := "MirrorDoors", name := "stepsTo", desc := "(I)I" } : Jvm.MethodName)) ∈ lw_all := lw_g (lw_at lw_m7 183 rfl) rfl
theorem q1734 : (Jvm.Cond.selects "MirrorDoors" ({ cls := "MirrorDoors", name := "stepsTo", desc := "(I)I" } : Jvm.MethodName) ({ cls := "MirrorDoors", name := "stepsTo", desc := "(I)I" } : Jvm.MethodName)) ∈ lw_all := lw_g (lw_at lw_m7 184 rfl) rfl
theorem q1735 : (Jvm.Cond.code ({ cls := "MirrorDoors", name := "stepsTo", desc := "(I)I" } : Jvm.MethodName) prog_1_method_37_code (3 : Nat) (Option.some Jvm.ClassFile.FieldType.int)) ∈ lw_all := lw_g (lw_at lw_m7 185 rfl) rfl
theorem q1740 : (Jvm.Cond.instanceMethod ({ cls := "MirrorDoors", name := "whyNot", desc := "(III)I" } : Jvm.MethodName)) ∈ lw_all := lw_g (lw_at lw_m7 190 rfl) rfl
theorem q1741 : (Jvm.Cond.selects "MirrorDoors" ({ cls := "MirrorDoors", name := "whyNot", desc := "(III)I" } : Jvm.MethodName) ({ cls := "MirrorDoors", name := "whyNot", desc := "(III)I" } : Jvm.MethodName)) ∈ lw_all := lw_g (lw_at lw_m7 191 rfl) rfl
theorem q1742 : (Jvm.Cond.code ({ cls := "MirrorDoors", name := "whyNot", desc := "(III)I" } : Jvm.MethodName) prog_1_method_38_code (7 : Nat) (Option.some Jvm.ClassFile.FieldType.int)) ∈ lw_all := lw_g (lw_at lw_m7 192 rfl) rfl
theorem q1747 : (Jvm.Cond.instanceMethod ({ cls := "MirrorDoors", name := "hitIf", desc := "(I)I" } : Jvm.MethodName)) ∈ lw_all := lw_g (lw_at lw_m7 197 rfl) rfl
theorem q1748 : (Jvm.Cond.selects "MirrorDoors" ({ cls := "MirrorDoors", name := "hitIf", desc := "(I)I" } : Jvm.MethodName) ({ cls := "MirrorDoors", name := "hitIf", desc := "(I)I" } : Jvm.MethodName)) ∈ lw_all := lw_g (lw_at lw_m7 198 rfl) rfl
theorem q1749 : (Jvm.Cond.code ({ cls := "MirrorDoors", name := "hitIf", desc := "(I)I" } : Jvm.MethodName) prog_1_method_40_code (3 : Nat) (Option.some Jvm.ClassFile.FieldType.int)) ∈ lw_all := lw_g (lw_at lw_m7 199 rfl) rfl
theorem q1750 : (Jvm.Cond.methodLink "MirrorDoors" (329 : Nat) ({ cls := "MirrorDoors$World", name := "turns", desc := "(Ljava/util/ArrayList;I)V" } : Jvm.MethodName)) ∈ lw_all := lw_g (lw_at lw_m7 200 rfl) rfl
theorem q1760 : (Jvm.Cond.instanceMethod ({ cls := "MirrorDoors", name := "fewest", desc := "(I)I" } : Jvm.MethodName)) ∈ lw_all := lw_g (lw_at lw_m7 210 rfl) rfl
theorem q1761 : (Jvm.Cond.selects "MirrorDoors" ({ cls := "MirrorDoors", name := "fewest", desc := "(I)I" } : Jvm.MethodName) ({ cls := "MirrorDoors", name := "fewest", desc := "(I)I" } : Jvm.MethodName)) ∈ lw_all := lw_g (lw_at lw_m7 211 rfl) rfl
theorem q1762 : (Jvm.Cond.code ({ cls := "MirrorDoors", name := "fewest", desc := "(I)I" } : Jvm.MethodName) prog_1_method_42_code (8 : Nat) (Option.some Jvm.ClassFile.FieldType.int)) ∈ lw_all := lw_g (lw_at lw_m7 212 rfl) rfl
theorem q1763 : (Jvm.Cond.methodLink "MirrorDoors" (332 : Nat) ({ cls := "MirrorDoors", name := "isHitBy", desc := "(LMirrorDoors$World;Ljava/util/ArrayList;II)Z" } : Jvm.MethodName)) ∈ lw_all := lw_g (lw_at lw_m7 213 rfl) rfl
theorem q1764 : (Jvm.Cond.privateMethod ({ cls := "MirrorDoors", name := "isHitBy", desc := "(LMirrorDoors$World;Ljava/util/ArrayList;II)Z" } : Jvm.MethodName)) ∈ lw_tbl := lw_at lw_m7 214 rfl
theorem q1765 : (Jvm.Cond.instanceMethod ({ cls := "MirrorDoors", name := "isHitBy", desc := "(LMirrorDoors$World;Ljava/util/ArrayList;II)Z" } : Jvm.MethodName)) ∈ lw_all := lw_g (lw_at lw_m7 215 rfl) rfl
theorem q1766 : (Jvm.Cond.code ({ cls := "MirrorDoors", name := "isHitBy", desc := "(LMirrorDoors$World;Ljava/util/ArrayList;II)Z" } : Jvm.MethodName) prog_1_method_41_code (6 : Nat) (Option.some Jvm.ClassFile.FieldType.boolean)) ∈ lw_all := lw_g (lw_at lw_m7 216 rfl) rfl
theorem q1771 : (Jvm.Cond.instanceMethod ({ cls := "MirrorDoors", name := "settings", desc := "(I)I" } : Jvm.MethodName)) ∈ lw_all := lw_g (lw_at lw_m7 221 rfl) rfl
theorem q1772 : (Jvm.Cond.selects "MirrorDoors" ({ cls := "MirrorDoors", name := "settings", desc := "(I)I" } : Jvm.MethodName) ({ cls := "MirrorDoors", name := "settings", desc := "(I)I" } : Jvm.MethodName)) ∈ lw_all := lw_g (lw_at lw_m7 222 rfl) rfl
theorem q1773 : (Jvm.Cond.code ({ cls := "MirrorDoors", name := "settings", desc := "(I)I" } : Jvm.MethodName) prog_1_method_43_code (7 : Nat) (Option.some Jvm.ClassFile.FieldType.int)) ∈ lw_all := lw_g (lw_at lw_m7 223 rfl) rfl
theorem q1778 : (Jvm.Cond.instanceMethod ({ cls := "MirrorDoors", name := "worth", desc := "(I)I" } : Jvm.MethodName)) ∈ lw_all := lw_g (lw_at lw_m7 228 rfl) rfl
theorem q1779 : (Jvm.Cond.selects "MirrorDoors" ({ cls := "MirrorDoors", name := "worth", desc := "(I)I" } : Jvm.MethodName) ({ cls := "MirrorDoors", name := "worth", desc := "(I)I" } : Jvm.MethodName)) ∈ lw_all := lw_g (lw_at lw_m7 229 rfl) rfl
theorem q1780 : (Jvm.Cond.code ({ cls := "MirrorDoors", name := "worth", desc := "(I)I" } : Jvm.MethodName) prog_1_method_44_code (2 : Nat) (Option.some Jvm.ClassFile.FieldType.int)) ∈ lw_all := lw_g (lw_at lw_m7 230 rfl) rfl
theorem q1781 : (Jvm.Cond.methodLink "MirrorDoors" (336 : Nat) ({ cls := "MirrorDoors$World", name := "worth", desc := "(I)I" } : Jvm.MethodName)) ∈ lw_all := lw_g (lw_at lw_m7 231 rfl) rfl
theorem q1805 : (Jvm.Cond.instanceMethod ({ cls := "MirrorDoors", name := "best", desc := "(I)I" } : Jvm.MethodName)) ∈ lw_all := lw_g (lw_at lw_m8 15 rfl) rfl
theorem q1806 : (Jvm.Cond.selects "MirrorDoors" ({ cls := "MirrorDoors", name := "best", desc := "(I)I" } : Jvm.MethodName) ({ cls := "MirrorDoors", name := "best", desc := "(I)I" } : Jvm.MethodName)) ∈ lw_all := lw_g (lw_at lw_m8 16 rfl) rfl
theorem q1807 : (Jvm.Cond.code ({ cls := "MirrorDoors", name := "best", desc := "(I)I" } : Jvm.MethodName) prog_1_method_45_code (8 : Nat) (Option.some Jvm.ClassFile.FieldType.int)) ∈ lw_all := lw_g (lw_at lw_m8 17 rfl) rfl
theorem q1808 : (Jvm.Cond.methodLink "MirrorDoors" (339 : Nat) ({ cls := "MirrorDoors$World", name := "worthBehind", desc := "(LMirrorDoors$Mirror;I)I" } : Jvm.MethodName)) ∈ lw_all := lw_g (lw_at lw_m8 18 rfl) rfl
theorem q2381 : (Jvm.Cond.castable "MirrorDoors" "java/lang/Object") ∈ lw_tbl := lw_at lw_m10 111 rfl
theorem in_X1 : ∀ w ∈ wsX10, w ∈ lw_all := lw_in wsX10 [477, 479, 481, 483, 485, 487, 489] (by decide +kernel) (by decide +kernel)

/-! MirrorDoors$Ray -/
set_option maxRecDepth 100000
def RX2 : String := "MirrorDoors$Ray"
def TX2 : u_T := fun k => match k with
  | 0 => ("MirrorDoors$Ray", "world", "LMirrorDoors$World;", false)
  | 1 => ("MirrorDoors$Ray", "beams", "[I", true)
  | 2 => ("MirrorDoors$Ray", "steps", "[I", true)
  | 3 => ("MirrorDoors$Ray", "numbers", "[I", true)
  | 4 => ("MirrorDoors$Ray", "many", "I", false)
  | 5 => ("MirrorDoors$Ray", "exits", "I", false)
  | 6 => ("MirrorDoors$Ray", "following", "[I", true)
  | 7 => ("MirrorDoors$Ray", "follows", "I", false)
  | 8 => ("MirrorDoors$Ray", "leaves", "I", false)
  | 9 => ("MirrorDoors$Ray", "seen", "[I", true)
  | 10 => ("MirrorDoors$Ray", "queue", "[I", true)
  | _ => ("MirrorDoors$Ray", "walks", "I", false)
def tyX2 : Nat → FieldType := fun k => match k with
  | 0 => .object "MirrorDoors$World"
  | 1 => .array .int
  | 2 => .array .int
  | 3 => .array .int
  | 4 => .int
  | 5 => .int
  | 6 => .array .int
  | 7 => .int
  | 8 => .int
  | 9 => .array .int
  | 10 => .array .int
  | _ => .int
abbrev wsX20 : List Cond := u_ws RX2 TX2 12
theorem nmX2 : ∀ a, a < 12 → ∀ b, b < 12 → a ≠ b → (TX2 a).2.1 ≠ (TX2 b).2.1 := by decide +kernel
theorem tyX2_ok : ∀ k, k < 12 → parseFieldDescriptor (TX2 k).2.2.1 = some (tyX2 k) := by decide +kernel
abbrev cX2_init : ByteArray := prog_8_method_1_code
def yX2_init : MethodName := ⟨RX2, "<init>", "()V"⟩
def dkwX2_init_2 : List UInt8 := [42, 17, 1, 144, 188, 10, 181, 0, 27, 177]
abbrev dktX2_init_2 : List UInt8 := dkwX2_init_2 ++ []
def dkwX2_init_1 : List UInt8 := [17, 1, 144, 188, 10, 181, 0, 18, 42, 5, 188, 10, 181, 0, 21, 42, 17, 1, 144, 188, 10, 181, 0, 24]
abbrev dktX2_init_1 : List UInt8 := dkwX2_init_1 ++ dktX2_init_2
def dkwX2_init_0 : List UInt8 := [42, 183, 0, 3, 42, 17, 1, 144, 188, 10, 181, 0, 9, 42, 17, 1, 144, 188, 10, 181, 0, 15, 42]
abbrev dktX2_init_0 : List UInt8 := dkwX2_init_0 ++ dktX2_init_1
theorem dksX2_init_0 : cX2_init.data.toList.drop 0 = dktX2_init_0 := by decide +kernel
theorem dksX2_init_1 : cX2_init.data.toList.drop 23 = dktX2_init_1 := dk_seg dksX2_init_0 23 rfl rfl
theorem dksX2_init_2 : cX2_init.data.toList.drop 47 = dktX2_init_2 := dk_seg dksX2_init_1 24 rfl rfl
theorem dX2_init_0 : decode cX2_init 0 = .ok (.aload_n 0, 1) := dk_42 (dk_at dksX2_init_0 0 rfl rfl)
theorem dX2_init_1 : decode cX2_init 1 = .ok (.invokespecial 3, 3) := dk_183 0 3 (dk_at dksX2_init_0 1 rfl rfl)
theorem dX2_init_4 : decode cX2_init 4 = .ok (.aload_n 0, 1) := dk_42 (dk_at dksX2_init_0 4 rfl rfl)
theorem dX2_init_5 : decode cX2_init 5 = .ok (.sipush 400, 3) := dk_17 1 144 (dk_at dksX2_init_0 5 rfl rfl)
theorem dX2_init_8 : decode cX2_init 8 = .ok (.newarray .int, 2) := dk_188_10 (dk_at dksX2_init_0 8 rfl rfl)
theorem dX2_init_10 : decode cX2_init 10 = .ok (.putfield 9, 3) := dk_181 0 9 (dk_at dksX2_init_0 10 rfl rfl)
theorem dX2_init_13 : decode cX2_init 13 = .ok (.aload_n 0, 1) := dk_42 (dk_at dksX2_init_0 13 rfl rfl)
theorem dX2_init_14 : decode cX2_init 14 = .ok (.sipush 400, 3) := dk_17 1 144 (dk_at dksX2_init_0 14 rfl rfl)
theorem dX2_init_17 : decode cX2_init 17 = .ok (.newarray .int, 2) := dk_188_10 (dk_at dksX2_init_0 17 rfl rfl)
theorem dX2_init_19 : decode cX2_init 19 = .ok (.putfield 15, 3) := dk_181 0 15 (dk_at dksX2_init_0 19 rfl rfl)
theorem dX2_init_22 : decode cX2_init 22 = .ok (.aload_n 0, 1) := dk_42 (dk_at dksX2_init_0 22 rfl rfl)
theorem dX2_init_23 : decode cX2_init 23 = .ok (.sipush 400, 3) := dk_17 1 144 (dk_at dksX2_init_1 0 rfl rfl)
theorem dX2_init_26 : decode cX2_init 26 = .ok (.newarray .int, 2) := dk_188_10 (dk_at dksX2_init_1 3 rfl rfl)
theorem dX2_init_28 : decode cX2_init 28 = .ok (.putfield 18, 3) := dk_181 0 18 (dk_at dksX2_init_1 5 rfl rfl)
theorem dX2_init_31 : decode cX2_init 31 = .ok (.aload_n 0, 1) := dk_42 (dk_at dksX2_init_1 8 rfl rfl)
theorem dX2_init_32 : decode cX2_init 32 = .ok (.iconst 2, 1) := dk_5 (dk_at dksX2_init_1 9 rfl rfl)
theorem dX2_init_33 : decode cX2_init 33 = .ok (.newarray .int, 2) := dk_188_10 (dk_at dksX2_init_1 10 rfl rfl)
theorem dX2_init_35 : decode cX2_init 35 = .ok (.putfield 21, 3) := dk_181 0 21 (dk_at dksX2_init_1 12 rfl rfl)
theorem dX2_init_38 : decode cX2_init 38 = .ok (.aload_n 0, 1) := dk_42 (dk_at dksX2_init_1 15 rfl rfl)
theorem dX2_init_39 : decode cX2_init 39 = .ok (.sipush 400, 3) := dk_17 1 144 (dk_at dksX2_init_1 16 rfl rfl)
theorem dX2_init_42 : decode cX2_init 42 = .ok (.newarray .int, 2) := dk_188_10 (dk_at dksX2_init_1 19 rfl rfl)
theorem dX2_init_44 : decode cX2_init 44 = .ok (.putfield 24, 3) := dk_181 0 24 (dk_at dksX2_init_1 21 rfl rfl)
theorem dX2_init_47 : decode cX2_init 47 = .ok (.aload_n 0, 1) := dk_42 (dk_at dksX2_init_2 0 rfl rfl)
theorem dX2_init_48 : decode cX2_init 48 = .ok (.sipush 400, 3) := dk_17 1 144 (dk_at dksX2_init_2 1 rfl rfl)
theorem dX2_init_51 : decode cX2_init 51 = .ok (.newarray .int, 2) := dk_188_10 (dk_at dksX2_init_2 4 rfl rfl)
theorem dX2_init_53 : decode cX2_init 53 = .ok (.putfield 27, 3) := dk_181 0 27 (dk_at dksX2_init_2 6 rfl rfl)
theorem dX2_init_56 : decode cX2_init 56 = .ok (.return_, 1) := dk_177 (dk_at dksX2_init_2 9 rfl rfl)
abbrev cX2_trace : ByteArray := prog_8_method_6_code
def yX2_trace : MethodName := ⟨RX2, "trace", "(LMirrorDoors$World;)V"⟩
def dkwX2_trace_6 : List UInt8 := [28, 46, 4, 96, 182, 0, 80, 132, 4, 1, 167, 255, 228, 132, 2, 1, 167, 255, 187, 177]
abbrev dktX2_trace_6 : List UInt8 := dkwX2_trace_6 ++ []
def dkwX2_trace_5 : List UInt8 := [181, 0, 77, 3, 54, 4, 21, 4, 29, 162, 0, 28, 42, 42, 180, 0, 21, 21, 4, 46, 42, 180, 0, 15]
abbrev dktX2_trace_5 : List UInt8 := dkwX2_trace_5 ++ dktX2_trace_6
def dkwX2_trace_4 : List UInt8 := [162, 0, 67, 42, 42, 180, 0, 9, 28, 46, 182, 0, 83, 62, 42, 89, 180, 0, 77, 42, 180, 0, 46, 96]
abbrev dktX2_trace_4 : List UInt8 := dkwX2_trace_4 ++ dktX2_trace_5
def dkwX2_trace_3 : List UInt8 := [180, 0, 50, 158, 0, 14, 42, 42, 180, 0, 21, 3, 46, 3, 182, 0, 80, 3, 61, 28, 42, 180, 0, 63]
abbrev dktX2_trace_3 : List UInt8 := dkwX2_trace_3 ++ dktX2_trace_4
def dkwX2_trace_2 : List UInt8 := [180, 0, 66, 42, 180, 0, 36, 182, 0, 69, 182, 0, 73, 42, 42, 180, 0, 46, 181, 0, 77, 42]
abbrev dktX2_trace_2 : List UInt8 := dkwX2_trace_2 ++ dktX2_trace_3
def dkwX2_trace_1 : List UInt8 := [167, 255, 239, 42, 3, 181, 0, 63, 42, 3, 181, 0, 50, 42, 3, 181, 0, 46, 42, 42, 180, 0, 36]
abbrev dktX2_trace_1 : List UInt8 := dkwX2_trace_1 ++ dktX2_trace_2
def dkwX2_trace_0 : List UInt8 := [42, 43, 181, 0, 36, 3, 61, 28, 17, 1, 144, 162, 0, 16, 42, 180, 0, 18, 28, 3, 79, 132, 2, 1]
abbrev dktX2_trace_0 : List UInt8 := dkwX2_trace_0 ++ dktX2_trace_1
theorem dksX2_trace_0 : cX2_trace.data.toList.drop 0 = dktX2_trace_0 := by decide +kernel
theorem dksX2_trace_1 : cX2_trace.data.toList.drop 24 = dktX2_trace_1 := dk_seg dksX2_trace_0 24 rfl rfl
theorem dksX2_trace_2 : cX2_trace.data.toList.drop 47 = dktX2_trace_2 := dk_seg dksX2_trace_1 23 rfl rfl
theorem dksX2_trace_3 : cX2_trace.data.toList.drop 69 = dktX2_trace_3 := dk_seg dksX2_trace_2 22 rfl rfl
theorem dksX2_trace_4 : cX2_trace.data.toList.drop 93 = dktX2_trace_4 := dk_seg dksX2_trace_3 24 rfl rfl
theorem dksX2_trace_5 : cX2_trace.data.toList.drop 117 = dktX2_trace_5 := dk_seg dksX2_trace_4 24 rfl rfl
theorem dksX2_trace_6 : cX2_trace.data.toList.drop 141 = dktX2_trace_6 := dk_seg dksX2_trace_5 24 rfl rfl
theorem dX2_trace_0 : decode cX2_trace 0 = .ok (.aload_n 0, 1) := dk_42 (dk_at dksX2_trace_0 0 rfl rfl)
theorem dX2_trace_1 : decode cX2_trace 1 = .ok (.aload_n 1, 1) := dk_43 (dk_at dksX2_trace_0 1 rfl rfl)
theorem dX2_trace_2 : decode cX2_trace 2 = .ok (.putfield 36, 3) := dk_181 0 36 (dk_at dksX2_trace_0 2 rfl rfl)
theorem dX2_trace_5 : decode cX2_trace 5 = .ok (.iconst 0, 1) := dk_3 (dk_at dksX2_trace_0 5 rfl rfl)
theorem dX2_trace_6 : decode cX2_trace 6 = .ok (.istore_n 2, 1) := dk_61 (dk_at dksX2_trace_0 6 rfl rfl)
theorem dX2_trace_7 : decode cX2_trace 7 = .ok (.iload_n 2, 1) := dk_28 (dk_at dksX2_trace_0 7 rfl rfl)
theorem dX2_trace_8 : decode cX2_trace 8 = .ok (.sipush 400, 3) := dk_17 1 144 (dk_at dksX2_trace_0 8 rfl rfl)
theorem dX2_trace_11 : decode cX2_trace 11 = .ok (.if_icmp .ge 16, 3) := dk_162 0 16 (dk_at dksX2_trace_0 11 rfl rfl)
theorem dX2_trace_14 : decode cX2_trace 14 = .ok (.aload_n 0, 1) := dk_42 (dk_at dksX2_trace_0 14 rfl rfl)
theorem dX2_trace_15 : decode cX2_trace 15 = .ok (.getfield 18, 3) := dk_180 0 18 (dk_at dksX2_trace_0 15 rfl rfl)
theorem dX2_trace_18 : decode cX2_trace 18 = .ok (.iload_n 2, 1) := dk_28 (dk_at dksX2_trace_0 18 rfl rfl)
theorem dX2_trace_19 : decode cX2_trace 19 = .ok (.iconst 0, 1) := dk_3 (dk_at dksX2_trace_0 19 rfl rfl)
theorem dX2_trace_20 : decode cX2_trace 20 = .ok (.iastore, 1) := dk_79 (dk_at dksX2_trace_0 20 rfl rfl)
theorem dX2_trace_21 : decode cX2_trace 21 = .ok (.iinc 2 1, 3) := dk_132 2 1 (dk_at dksX2_trace_0 21 rfl rfl)
theorem dX2_trace_24 : decode cX2_trace 24 = .ok (.goto (-17), 3) := dk_167 255 239 (dk_at dksX2_trace_1 0 rfl rfl)
theorem dX2_trace_27 : decode cX2_trace 27 = .ok (.aload_n 0, 1) := dk_42 (dk_at dksX2_trace_1 3 rfl rfl)
theorem dX2_trace_28 : decode cX2_trace 28 = .ok (.iconst 0, 1) := dk_3 (dk_at dksX2_trace_1 4 rfl rfl)
theorem dX2_trace_29 : decode cX2_trace 29 = .ok (.putfield 63, 3) := dk_181 0 63 (dk_at dksX2_trace_1 5 rfl rfl)
theorem dX2_trace_32 : decode cX2_trace 32 = .ok (.aload_n 0, 1) := dk_42 (dk_at dksX2_trace_1 8 rfl rfl)
theorem dX2_trace_33 : decode cX2_trace 33 = .ok (.iconst 0, 1) := dk_3 (dk_at dksX2_trace_1 9 rfl rfl)
theorem dX2_trace_34 : decode cX2_trace 34 = .ok (.putfield 50, 3) := dk_181 0 50 (dk_at dksX2_trace_1 10 rfl rfl)
theorem dX2_trace_37 : decode cX2_trace 37 = .ok (.aload_n 0, 1) := dk_42 (dk_at dksX2_trace_1 13 rfl rfl)
theorem dX2_trace_38 : decode cX2_trace 38 = .ok (.iconst 0, 1) := dk_3 (dk_at dksX2_trace_1 14 rfl rfl)
theorem dX2_trace_39 : decode cX2_trace 39 = .ok (.putfield 46, 3) := dk_181 0 46 (dk_at dksX2_trace_1 15 rfl rfl)
theorem dX2_trace_42 : decode cX2_trace 42 = .ok (.aload_n 0, 1) := dk_42 (dk_at dksX2_trace_1 18 rfl rfl)
theorem dX2_trace_43 : decode cX2_trace 43 = .ok (.aload_n 0, 1) := dk_42 (dk_at dksX2_trace_1 19 rfl rfl)
theorem dX2_trace_44 : decode cX2_trace 44 = .ok (.getfield 36, 3) := dk_180 0 36 (dk_at dksX2_trace_1 20 rfl rfl)
theorem dX2_trace_47 : decode cX2_trace 47 = .ok (.getfield 66, 3) := dk_180 0 66 (dk_at dksX2_trace_2 0 rfl rfl)
theorem dX2_trace_50 : decode cX2_trace 50 = .ok (.aload_n 0, 1) := dk_42 (dk_at dksX2_trace_2 3 rfl rfl)
theorem dX2_trace_51 : decode cX2_trace 51 = .ok (.getfield 36, 3) := dk_180 0 36 (dk_at dksX2_trace_2 4 rfl rfl)
theorem dX2_trace_54 : decode cX2_trace 54 = .ok (.invokevirtual 69, 3) := dk_182 0 69 (dk_at dksX2_trace_2 7 rfl rfl)
theorem dX2_trace_57 : decode cX2_trace 57 = .ok (.invokevirtual 73, 3) := dk_182 0 73 (dk_at dksX2_trace_2 10 rfl rfl)
theorem dX2_trace_60 : decode cX2_trace 60 = .ok (.aload_n 0, 1) := dk_42 (dk_at dksX2_trace_2 13 rfl rfl)
theorem dX2_trace_61 : decode cX2_trace 61 = .ok (.aload_n 0, 1) := dk_42 (dk_at dksX2_trace_2 14 rfl rfl)
theorem dX2_trace_62 : decode cX2_trace 62 = .ok (.getfield 46, 3) := dk_180 0 46 (dk_at dksX2_trace_2 15 rfl rfl)
theorem dX2_trace_65 : decode cX2_trace 65 = .ok (.putfield 77, 3) := dk_181 0 77 (dk_at dksX2_trace_2 18 rfl rfl)
theorem dX2_trace_68 : decode cX2_trace 68 = .ok (.aload_n 0, 1) := dk_42 (dk_at dksX2_trace_2 21 rfl rfl)
theorem dX2_trace_69 : decode cX2_trace 69 = .ok (.getfield 50, 3) := dk_180 0 50 (dk_at dksX2_trace_3 0 rfl rfl)
theorem dX2_trace_72 : decode cX2_trace 72 = .ok (.ifCond .le 14, 3) := dk_158 0 14 (dk_at dksX2_trace_3 3 rfl rfl)
theorem dX2_trace_75 : decode cX2_trace 75 = .ok (.aload_n 0, 1) := dk_42 (dk_at dksX2_trace_3 6 rfl rfl)
theorem dX2_trace_76 : decode cX2_trace 76 = .ok (.aload_n 0, 1) := dk_42 (dk_at dksX2_trace_3 7 rfl rfl)
theorem dX2_trace_77 : decode cX2_trace 77 = .ok (.getfield 21, 3) := dk_180 0 21 (dk_at dksX2_trace_3 8 rfl rfl)
theorem dX2_trace_80 : decode cX2_trace 80 = .ok (.iconst 0, 1) := dk_3 (dk_at dksX2_trace_3 11 rfl rfl)
theorem dX2_trace_81 : decode cX2_trace 81 = .ok (.iaload, 1) := dk_46 (dk_at dksX2_trace_3 12 rfl rfl)
theorem dX2_trace_82 : decode cX2_trace 82 = .ok (.iconst 0, 1) := dk_3 (dk_at dksX2_trace_3 13 rfl rfl)
theorem dX2_trace_83 : decode cX2_trace 83 = .ok (.invokevirtual 80, 3) := dk_182 0 80 (dk_at dksX2_trace_3 14 rfl rfl)
theorem dX2_trace_86 : decode cX2_trace 86 = .ok (.iconst 0, 1) := dk_3 (dk_at dksX2_trace_3 17 rfl rfl)
theorem dX2_trace_87 : decode cX2_trace 87 = .ok (.istore_n 2, 1) := dk_61 (dk_at dksX2_trace_3 18 rfl rfl)
theorem dX2_trace_88 : decode cX2_trace 88 = .ok (.iload_n 2, 1) := dk_28 (dk_at dksX2_trace_3 19 rfl rfl)
theorem dX2_trace_89 : decode cX2_trace 89 = .ok (.aload_n 0, 1) := dk_42 (dk_at dksX2_trace_3 20 rfl rfl)
theorem dX2_trace_90 : decode cX2_trace 90 = .ok (.getfield 63, 3) := dk_180 0 63 (dk_at dksX2_trace_3 21 rfl rfl)
theorem dX2_trace_93 : decode cX2_trace 93 = .ok (.if_icmp .ge 67, 3) := dk_162 0 67 (dk_at dksX2_trace_4 0 rfl rfl)
theorem dX2_trace_96 : decode cX2_trace 96 = .ok (.aload_n 0, 1) := dk_42 (dk_at dksX2_trace_4 3 rfl rfl)
theorem dX2_trace_97 : decode cX2_trace 97 = .ok (.aload_n 0, 1) := dk_42 (dk_at dksX2_trace_4 4 rfl rfl)
theorem dX2_trace_98 : decode cX2_trace 98 = .ok (.getfield 9, 3) := dk_180 0 9 (dk_at dksX2_trace_4 5 rfl rfl)
theorem dX2_trace_101 : decode cX2_trace 101 = .ok (.iload_n 2, 1) := dk_28 (dk_at dksX2_trace_4 8 rfl rfl)
theorem dX2_trace_102 : decode cX2_trace 102 = .ok (.iaload, 1) := dk_46 (dk_at dksX2_trace_4 9 rfl rfl)
theorem dX2_trace_103 : decode cX2_trace 103 = .ok (.invokevirtual 83, 3) := dk_182 0 83 (dk_at dksX2_trace_4 10 rfl rfl)
theorem dX2_trace_106 : decode cX2_trace 106 = .ok (.istore_n 3, 1) := dk_62 (dk_at dksX2_trace_4 13 rfl rfl)
theorem dX2_trace_107 : decode cX2_trace 107 = .ok (.aload_n 0, 1) := dk_42 (dk_at dksX2_trace_4 14 rfl rfl)
theorem dX2_trace_108 : decode cX2_trace 108 = .ok (.dup, 1) := dk_89 (dk_at dksX2_trace_4 15 rfl rfl)
theorem dX2_trace_109 : decode cX2_trace 109 = .ok (.getfield 77, 3) := dk_180 0 77 (dk_at dksX2_trace_4 16 rfl rfl)
theorem dX2_trace_112 : decode cX2_trace 112 = .ok (.aload_n 0, 1) := dk_42 (dk_at dksX2_trace_4 19 rfl rfl)
theorem dX2_trace_113 : decode cX2_trace 113 = .ok (.getfield 46, 3) := dk_180 0 46 (dk_at dksX2_trace_4 20 rfl rfl)
theorem dX2_trace_116 : decode cX2_trace 116 = .ok (.iadd, 1) := dk_96 (dk_at dksX2_trace_4 23 rfl rfl)
theorem dX2_trace_117 : decode cX2_trace 117 = .ok (.putfield 77, 3) := dk_181 0 77 (dk_at dksX2_trace_5 0 rfl rfl)
theorem dX2_trace_120 : decode cX2_trace 120 = .ok (.iconst 0, 1) := dk_3 (dk_at dksX2_trace_5 3 rfl rfl)
theorem dX2_trace_121 : decode cX2_trace 121 = .ok (.istore 4, 2) := dk_54 4 (dk_at dksX2_trace_5 4 rfl rfl)
theorem dX2_trace_123 : decode cX2_trace 123 = .ok (.iload 4, 2) := dk_21 4 (dk_at dksX2_trace_5 6 rfl rfl)
theorem dX2_trace_125 : decode cX2_trace 125 = .ok (.iload_n 3, 1) := dk_29 (dk_at dksX2_trace_5 8 rfl rfl)
theorem dX2_trace_126 : decode cX2_trace 126 = .ok (.if_icmp .ge 28, 3) := dk_162 0 28 (dk_at dksX2_trace_5 9 rfl rfl)
theorem dX2_trace_129 : decode cX2_trace 129 = .ok (.aload_n 0, 1) := dk_42 (dk_at dksX2_trace_5 12 rfl rfl)
theorem dX2_trace_130 : decode cX2_trace 130 = .ok (.aload_n 0, 1) := dk_42 (dk_at dksX2_trace_5 13 rfl rfl)
theorem dX2_trace_131 : decode cX2_trace 131 = .ok (.getfield 21, 3) := dk_180 0 21 (dk_at dksX2_trace_5 14 rfl rfl)
theorem dX2_trace_134 : decode cX2_trace 134 = .ok (.iload 4, 2) := dk_21 4 (dk_at dksX2_trace_5 17 rfl rfl)
theorem dX2_trace_136 : decode cX2_trace 136 = .ok (.iaload, 1) := dk_46 (dk_at dksX2_trace_5 19 rfl rfl)
theorem dX2_trace_137 : decode cX2_trace 137 = .ok (.aload_n 0, 1) := dk_42 (dk_at dksX2_trace_5 20 rfl rfl)
theorem dX2_trace_138 : decode cX2_trace 138 = .ok (.getfield 15, 3) := dk_180 0 15 (dk_at dksX2_trace_5 21 rfl rfl)
theorem dX2_trace_141 : decode cX2_trace 141 = .ok (.iload_n 2, 1) := dk_28 (dk_at dksX2_trace_6 0 rfl rfl)
theorem dX2_trace_142 : decode cX2_trace 142 = .ok (.iaload, 1) := dk_46 (dk_at dksX2_trace_6 1 rfl rfl)
theorem dX2_trace_143 : decode cX2_trace 143 = .ok (.iconst 1, 1) := dk_4 (dk_at dksX2_trace_6 2 rfl rfl)
theorem dX2_trace_144 : decode cX2_trace 144 = .ok (.iadd, 1) := dk_96 (dk_at dksX2_trace_6 3 rfl rfl)
theorem dX2_trace_145 : decode cX2_trace 145 = .ok (.invokevirtual 80, 3) := dk_182 0 80 (dk_at dksX2_trace_6 4 rfl rfl)
theorem dX2_trace_148 : decode cX2_trace 148 = .ok (.iinc 4 1, 3) := dk_132 4 1 (dk_at dksX2_trace_6 7 rfl rfl)
theorem dX2_trace_151 : decode cX2_trace 151 = .ok (.goto (-28), 3) := dk_167 255 228 (dk_at dksX2_trace_6 10 rfl rfl)
theorem dX2_trace_154 : decode cX2_trace 154 = .ok (.iinc 2 1, 3) := dk_132 2 1 (dk_at dksX2_trace_6 13 rfl rfl)
theorem dX2_trace_157 : decode cX2_trace 157 = .ok (.goto (-69), 3) := dk_167 255 187 (dk_at dksX2_trace_6 16 rfl rfl)
theorem dX2_trace_160 : decode cX2_trace 160 = .ok (.return_, 1) := dk_177 (dk_at dksX2_trace_6 19 rfl rfl)
abbrev cX2_goes : ByteArray := prog_8_method_2_code
def yX2_goes : MethodName := ⟨RX2, "goes", "(II)V"⟩
def dkwX2_goes_3 : List UInt8 := [4, 96, 181, 0, 50, 177]
abbrev dktX2_goes_3 : List UInt8 := dkwX2_goes_3 ++ []
def dkwX2_goes_2 : List UInt8 := [180, 0, 21, 42, 180, 0, 50, 7, 16, 10, 21, 4, 104, 29, 96, 104, 28, 96, 79, 42, 89, 180, 0, 50]
abbrev dktX2_goes_2 : List UInt8 := dkwX2_goes_2 ++ dktX2_goes_3
def dkwX2_goes_1 : List UInt8 := [180, 0, 36, 29, 21, 4, 182, 0, 40, 154, 0, 14, 42, 89, 180, 0, 46, 4, 96, 181, 0, 46, 177, 42]
abbrev dktX2_goes_1 : List UInt8 := dkwX2_goes_1 ++ dktX2_goes_2
def dkwX2_goes_0 : List UInt8 := [27, 16, 10, 112, 178, 0, 30, 28, 46, 96, 62, 27, 16, 10, 108, 178, 0, 33, 28, 46, 96, 54, 4, 42]
abbrev dktX2_goes_0 : List UInt8 := dkwX2_goes_0 ++ dktX2_goes_1
theorem dksX2_goes_0 : cX2_goes.data.toList.drop 0 = dktX2_goes_0 := by decide +kernel
theorem dksX2_goes_1 : cX2_goes.data.toList.drop 24 = dktX2_goes_1 := dk_seg dksX2_goes_0 24 rfl rfl
theorem dksX2_goes_2 : cX2_goes.data.toList.drop 48 = dktX2_goes_2 := dk_seg dksX2_goes_1 24 rfl rfl
theorem dksX2_goes_3 : cX2_goes.data.toList.drop 72 = dktX2_goes_3 := dk_seg dksX2_goes_2 24 rfl rfl
theorem dX2_goes_0 : decode cX2_goes 0 = .ok (.iload_n 1, 1) := dk_27 (dk_at dksX2_goes_0 0 rfl rfl)
theorem dX2_goes_1 : decode cX2_goes 1 = .ok (.bipush 10, 2) := dk_16 10 (dk_at dksX2_goes_0 1 rfl rfl)
theorem dX2_goes_3 : decode cX2_goes 3 = .ok (.irem, 1) := dk_112 (dk_at dksX2_goes_0 3 rfl rfl)
theorem dX2_goes_4 : decode cX2_goes 4 = .ok (.getstatic 30, 3) := dk_178 0 30 (dk_at dksX2_goes_0 4 rfl rfl)
theorem dX2_goes_7 : decode cX2_goes 7 = .ok (.iload_n 2, 1) := dk_28 (dk_at dksX2_goes_0 7 rfl rfl)
theorem dX2_goes_8 : decode cX2_goes 8 = .ok (.iaload, 1) := dk_46 (dk_at dksX2_goes_0 8 rfl rfl)
theorem dX2_goes_9 : decode cX2_goes 9 = .ok (.iadd, 1) := dk_96 (dk_at dksX2_goes_0 9 rfl rfl)
theorem dX2_goes_10 : decode cX2_goes 10 = .ok (.istore_n 3, 1) := dk_62 (dk_at dksX2_goes_0 10 rfl rfl)
theorem dX2_goes_11 : decode cX2_goes 11 = .ok (.iload_n 1, 1) := dk_27 (dk_at dksX2_goes_0 11 rfl rfl)
theorem dX2_goes_12 : decode cX2_goes 12 = .ok (.bipush 10, 2) := dk_16 10 (dk_at dksX2_goes_0 12 rfl rfl)
theorem dX2_goes_14 : decode cX2_goes 14 = .ok (.idiv, 1) := dk_108 (dk_at dksX2_goes_0 14 rfl rfl)
theorem dX2_goes_15 : decode cX2_goes 15 = .ok (.getstatic 33, 3) := dk_178 0 33 (dk_at dksX2_goes_0 15 rfl rfl)
theorem dX2_goes_18 : decode cX2_goes 18 = .ok (.iload_n 2, 1) := dk_28 (dk_at dksX2_goes_0 18 rfl rfl)
theorem dX2_goes_19 : decode cX2_goes 19 = .ok (.iaload, 1) := dk_46 (dk_at dksX2_goes_0 19 rfl rfl)
theorem dX2_goes_20 : decode cX2_goes 20 = .ok (.iadd, 1) := dk_96 (dk_at dksX2_goes_0 20 rfl rfl)
theorem dX2_goes_21 : decode cX2_goes 21 = .ok (.istore 4, 2) := dk_54 4 (dk_at dksX2_goes_0 21 rfl rfl)
theorem dX2_goes_23 : decode cX2_goes 23 = .ok (.aload_n 0, 1) := dk_42 (dk_at dksX2_goes_0 23 rfl rfl)
theorem dX2_goes_24 : decode cX2_goes 24 = .ok (.getfield 36, 3) := dk_180 0 36 (dk_at dksX2_goes_1 0 rfl rfl)
theorem dX2_goes_27 : decode cX2_goes 27 = .ok (.iload_n 3, 1) := dk_29 (dk_at dksX2_goes_1 3 rfl rfl)
theorem dX2_goes_28 : decode cX2_goes 28 = .ok (.iload 4, 2) := dk_21 4 (dk_at dksX2_goes_1 4 rfl rfl)
theorem dX2_goes_30 : decode cX2_goes 30 = .ok (.invokevirtual 40, 3) := dk_182 0 40 (dk_at dksX2_goes_1 6 rfl rfl)
theorem dX2_goes_33 : decode cX2_goes 33 = .ok (.ifCond .ne 14, 3) := dk_154 0 14 (dk_at dksX2_goes_1 9 rfl rfl)
theorem dX2_goes_36 : decode cX2_goes 36 = .ok (.aload_n 0, 1) := dk_42 (dk_at dksX2_goes_1 12 rfl rfl)
theorem dX2_goes_37 : decode cX2_goes 37 = .ok (.dup, 1) := dk_89 (dk_at dksX2_goes_1 13 rfl rfl)
theorem dX2_goes_38 : decode cX2_goes 38 = .ok (.getfield 46, 3) := dk_180 0 46 (dk_at dksX2_goes_1 14 rfl rfl)
theorem dX2_goes_41 : decode cX2_goes 41 = .ok (.iconst 1, 1) := dk_4 (dk_at dksX2_goes_1 17 rfl rfl)
theorem dX2_goes_42 : decode cX2_goes 42 = .ok (.iadd, 1) := dk_96 (dk_at dksX2_goes_1 18 rfl rfl)
theorem dX2_goes_43 : decode cX2_goes 43 = .ok (.putfield 46, 3) := dk_181 0 46 (dk_at dksX2_goes_1 19 rfl rfl)
theorem dX2_goes_46 : decode cX2_goes 46 = .ok (.return_, 1) := dk_177 (dk_at dksX2_goes_1 22 rfl rfl)
theorem dX2_goes_47 : decode cX2_goes 47 = .ok (.aload_n 0, 1) := dk_42 (dk_at dksX2_goes_1 23 rfl rfl)
theorem dX2_goes_48 : decode cX2_goes 48 = .ok (.getfield 21, 3) := dk_180 0 21 (dk_at dksX2_goes_2 0 rfl rfl)
theorem dX2_goes_51 : decode cX2_goes 51 = .ok (.aload_n 0, 1) := dk_42 (dk_at dksX2_goes_2 3 rfl rfl)
theorem dX2_goes_52 : decode cX2_goes 52 = .ok (.getfield 50, 3) := dk_180 0 50 (dk_at dksX2_goes_2 4 rfl rfl)
theorem dX2_goes_55 : decode cX2_goes 55 = .ok (.iconst 4, 1) := dk_7 (dk_at dksX2_goes_2 7 rfl rfl)
theorem dX2_goes_56 : decode cX2_goes 56 = .ok (.bipush 10, 2) := dk_16 10 (dk_at dksX2_goes_2 8 rfl rfl)
theorem dX2_goes_58 : decode cX2_goes 58 = .ok (.iload 4, 2) := dk_21 4 (dk_at dksX2_goes_2 10 rfl rfl)
theorem dX2_goes_60 : decode cX2_goes 60 = .ok (.imul, 1) := dk_104 (dk_at dksX2_goes_2 12 rfl rfl)
theorem dX2_goes_61 : decode cX2_goes 61 = .ok (.iload_n 3, 1) := dk_29 (dk_at dksX2_goes_2 13 rfl rfl)
theorem dX2_goes_62 : decode cX2_goes 62 = .ok (.iadd, 1) := dk_96 (dk_at dksX2_goes_2 14 rfl rfl)
theorem dX2_goes_63 : decode cX2_goes 63 = .ok (.imul, 1) := dk_104 (dk_at dksX2_goes_2 15 rfl rfl)
theorem dX2_goes_64 : decode cX2_goes 64 = .ok (.iload_n 2, 1) := dk_28 (dk_at dksX2_goes_2 16 rfl rfl)
theorem dX2_goes_65 : decode cX2_goes 65 = .ok (.iadd, 1) := dk_96 (dk_at dksX2_goes_2 17 rfl rfl)
theorem dX2_goes_66 : decode cX2_goes 66 = .ok (.iastore, 1) := dk_79 (dk_at dksX2_goes_2 18 rfl rfl)
theorem dX2_goes_67 : decode cX2_goes 67 = .ok (.aload_n 0, 1) := dk_42 (dk_at dksX2_goes_2 19 rfl rfl)
theorem dX2_goes_68 : decode cX2_goes 68 = .ok (.dup, 1) := dk_89 (dk_at dksX2_goes_2 20 rfl rfl)
theorem dX2_goes_69 : decode cX2_goes 69 = .ok (.getfield 50, 3) := dk_180 0 50 (dk_at dksX2_goes_2 21 rfl rfl)
theorem dX2_goes_72 : decode cX2_goes 72 = .ok (.iconst 1, 1) := dk_4 (dk_at dksX2_goes_3 0 rfl rfl)
theorem dX2_goes_73 : decode cX2_goes 73 = .ok (.iadd, 1) := dk_96 (dk_at dksX2_goes_3 1 rfl rfl)
theorem dX2_goes_74 : decode cX2_goes 74 = .ok (.putfield 50, 3) := dk_181 0 50 (dk_at dksX2_goes_3 2 rfl rfl)
theorem dX2_goes_77 : decode cX2_goes 77 = .ok (.return_, 1) := dk_177 (dk_at dksX2_goes_3 5 rfl rfl)
abbrev cX2_adds : ByteArray := prog_8_method_4_code
def yX2_adds : MethodName := ⟨RX2, "adds", "(II)V"⟩
def dkwX2_adds_2 : List UInt8 := [79, 177]
abbrev dktX2_adds_2 : List UInt8 := dkwX2_adds_2 ++ []
def dkwX2_adds_1 : List UInt8 := [180, 0, 63, 28, 79, 42, 89, 180, 0, 63, 4, 96, 181, 0, 63, 42, 180, 0, 18, 27, 42, 180, 0, 63]
abbrev dktX2_adds_1 : List UInt8 := dkwX2_adds_1 ++ dktX2_adds_2
def dkwX2_adds_0 : List UInt8 := [42, 180, 0, 18, 27, 46, 154, 0, 43, 42, 180, 0, 9, 42, 180, 0, 63, 27, 79, 42, 180, 0, 15, 42]
abbrev dktX2_adds_0 : List UInt8 := dkwX2_adds_0 ++ dktX2_adds_1
theorem dksX2_adds_0 : cX2_adds.data.toList.drop 0 = dktX2_adds_0 := by decide +kernel
theorem dksX2_adds_1 : cX2_adds.data.toList.drop 24 = dktX2_adds_1 := dk_seg dksX2_adds_0 24 rfl rfl
theorem dksX2_adds_2 : cX2_adds.data.toList.drop 48 = dktX2_adds_2 := dk_seg dksX2_adds_1 24 rfl rfl
theorem dX2_adds_0 : decode cX2_adds 0 = .ok (.aload_n 0, 1) := dk_42 (dk_at dksX2_adds_0 0 rfl rfl)
theorem dX2_adds_1 : decode cX2_adds 1 = .ok (.getfield 18, 3) := dk_180 0 18 (dk_at dksX2_adds_0 1 rfl rfl)
theorem dX2_adds_4 : decode cX2_adds 4 = .ok (.iload_n 1, 1) := dk_27 (dk_at dksX2_adds_0 4 rfl rfl)
theorem dX2_adds_5 : decode cX2_adds 5 = .ok (.iaload, 1) := dk_46 (dk_at dksX2_adds_0 5 rfl rfl)
theorem dX2_adds_6 : decode cX2_adds 6 = .ok (.ifCond .ne 43, 3) := dk_154 0 43 (dk_at dksX2_adds_0 6 rfl rfl)
theorem dX2_adds_9 : decode cX2_adds 9 = .ok (.aload_n 0, 1) := dk_42 (dk_at dksX2_adds_0 9 rfl rfl)
theorem dX2_adds_10 : decode cX2_adds 10 = .ok (.getfield 9, 3) := dk_180 0 9 (dk_at dksX2_adds_0 10 rfl rfl)
theorem dX2_adds_13 : decode cX2_adds 13 = .ok (.aload_n 0, 1) := dk_42 (dk_at dksX2_adds_0 13 rfl rfl)
theorem dX2_adds_14 : decode cX2_adds 14 = .ok (.getfield 63, 3) := dk_180 0 63 (dk_at dksX2_adds_0 14 rfl rfl)
theorem dX2_adds_17 : decode cX2_adds 17 = .ok (.iload_n 1, 1) := dk_27 (dk_at dksX2_adds_0 17 rfl rfl)
theorem dX2_adds_18 : decode cX2_adds 18 = .ok (.iastore, 1) := dk_79 (dk_at dksX2_adds_0 18 rfl rfl)
theorem dX2_adds_19 : decode cX2_adds 19 = .ok (.aload_n 0, 1) := dk_42 (dk_at dksX2_adds_0 19 rfl rfl)
theorem dX2_adds_20 : decode cX2_adds 20 = .ok (.getfield 15, 3) := dk_180 0 15 (dk_at dksX2_adds_0 20 rfl rfl)
theorem dX2_adds_23 : decode cX2_adds 23 = .ok (.aload_n 0, 1) := dk_42 (dk_at dksX2_adds_0 23 rfl rfl)
theorem dX2_adds_24 : decode cX2_adds 24 = .ok (.getfield 63, 3) := dk_180 0 63 (dk_at dksX2_adds_1 0 rfl rfl)
theorem dX2_adds_27 : decode cX2_adds 27 = .ok (.iload_n 2, 1) := dk_28 (dk_at dksX2_adds_1 3 rfl rfl)
theorem dX2_adds_28 : decode cX2_adds 28 = .ok (.iastore, 1) := dk_79 (dk_at dksX2_adds_1 4 rfl rfl)
theorem dX2_adds_29 : decode cX2_adds 29 = .ok (.aload_n 0, 1) := dk_42 (dk_at dksX2_adds_1 5 rfl rfl)
theorem dX2_adds_30 : decode cX2_adds 30 = .ok (.dup, 1) := dk_89 (dk_at dksX2_adds_1 6 rfl rfl)
theorem dX2_adds_31 : decode cX2_adds 31 = .ok (.getfield 63, 3) := dk_180 0 63 (dk_at dksX2_adds_1 7 rfl rfl)
theorem dX2_adds_34 : decode cX2_adds 34 = .ok (.iconst 1, 1) := dk_4 (dk_at dksX2_adds_1 10 rfl rfl)
theorem dX2_adds_35 : decode cX2_adds 35 = .ok (.iadd, 1) := dk_96 (dk_at dksX2_adds_1 11 rfl rfl)
theorem dX2_adds_36 : decode cX2_adds 36 = .ok (.putfield 63, 3) := dk_181 0 63 (dk_at dksX2_adds_1 12 rfl rfl)
theorem dX2_adds_39 : decode cX2_adds 39 = .ok (.aload_n 0, 1) := dk_42 (dk_at dksX2_adds_1 15 rfl rfl)
theorem dX2_adds_40 : decode cX2_adds 40 = .ok (.getfield 18, 3) := dk_180 0 18 (dk_at dksX2_adds_1 16 rfl rfl)
theorem dX2_adds_43 : decode cX2_adds 43 = .ok (.iload_n 1, 1) := dk_27 (dk_at dksX2_adds_1 19 rfl rfl)
theorem dX2_adds_44 : decode cX2_adds 44 = .ok (.aload_n 0, 1) := dk_42 (dk_at dksX2_adds_1 20 rfl rfl)
theorem dX2_adds_45 : decode cX2_adds 45 = .ok (.getfield 63, 3) := dk_180 0 63 (dk_at dksX2_adds_1 21 rfl rfl)
theorem dX2_adds_48 : decode cX2_adds 48 = .ok (.iastore, 1) := dk_79 (dk_at dksX2_adds_2 0 rfl rfl)
theorem dX2_adds_49 : decode cX2_adds 49 = .ok (.return_, 1) := dk_177 (dk_at dksX2_adds_2 1 rfl rfl)
abbrev cX2_follow : ByteArray := prog_8_method_3_code
def yX2_follow : MethodName := ⟨RX2, "follow", "(I)I"⟩
def dkwX2_follow_1 : List UInt8 := [42, 182, 0, 57, 42, 180, 0, 50, 172]
abbrev dktX2_follow_1 : List UInt8 := dkwX2_follow_1 ++ []
def dkwX2_follow_0 : List UInt8 := [42, 3, 181, 0, 50, 42, 3, 181, 0, 46, 42, 180, 0, 36, 180, 0, 53, 27, 7, 108, 50, 27, 7, 112]
abbrev dktX2_follow_0 : List UInt8 := dkwX2_follow_0 ++ dktX2_follow_1
theorem dksX2_follow_0 : cX2_follow.data.toList.drop 0 = dktX2_follow_0 := by decide +kernel
theorem dksX2_follow_1 : cX2_follow.data.toList.drop 24 = dktX2_follow_1 := dk_seg dksX2_follow_0 24 rfl rfl
theorem dX2_follow_0 : decode cX2_follow 0 = .ok (.aload_n 0, 1) := dk_42 (dk_at dksX2_follow_0 0 rfl rfl)
theorem dX2_follow_1 : decode cX2_follow 1 = .ok (.iconst 0, 1) := dk_3 (dk_at dksX2_follow_0 1 rfl rfl)
theorem dX2_follow_2 : decode cX2_follow 2 = .ok (.putfield 50, 3) := dk_181 0 50 (dk_at dksX2_follow_0 2 rfl rfl)
theorem dX2_follow_5 : decode cX2_follow 5 = .ok (.aload_n 0, 1) := dk_42 (dk_at dksX2_follow_0 5 rfl rfl)
theorem dX2_follow_6 : decode cX2_follow 6 = .ok (.iconst 0, 1) := dk_3 (dk_at dksX2_follow_0 6 rfl rfl)
theorem dX2_follow_7 : decode cX2_follow 7 = .ok (.putfield 46, 3) := dk_181 0 46 (dk_at dksX2_follow_0 7 rfl rfl)
theorem dX2_follow_10 : decode cX2_follow 10 = .ok (.aload_n 0, 1) := dk_42 (dk_at dksX2_follow_0 10 rfl rfl)
theorem dX2_follow_11 : decode cX2_follow 11 = .ok (.getfield 36, 3) := dk_180 0 36 (dk_at dksX2_follow_0 11 rfl rfl)
theorem dX2_follow_14 : decode cX2_follow 14 = .ok (.getfield 53, 3) := dk_180 0 53 (dk_at dksX2_follow_0 14 rfl rfl)
theorem dX2_follow_17 : decode cX2_follow 17 = .ok (.iload_n 1, 1) := dk_27 (dk_at dksX2_follow_0 17 rfl rfl)
theorem dX2_follow_18 : decode cX2_follow 18 = .ok (.iconst 4, 1) := dk_7 (dk_at dksX2_follow_0 18 rfl rfl)
theorem dX2_follow_19 : decode cX2_follow 19 = .ok (.idiv, 1) := dk_108 (dk_at dksX2_follow_0 19 rfl rfl)
theorem dX2_follow_20 : decode cX2_follow 20 = .ok (.aaload, 1) := dk_50 (dk_at dksX2_follow_0 20 rfl rfl)
theorem dX2_follow_21 : decode cX2_follow 21 = .ok (.iload_n 1, 1) := dk_27 (dk_at dksX2_follow_0 21 rfl rfl)
theorem dX2_follow_22 : decode cX2_follow 22 = .ok (.iconst 4, 1) := dk_7 (dk_at dksX2_follow_0 22 rfl rfl)
theorem dX2_follow_23 : decode cX2_follow 23 = .ok (.irem, 1) := dk_112 (dk_at dksX2_follow_0 23 rfl rfl)
theorem dX2_follow_24 : decode cX2_follow 24 = .ok (.aload_n 0, 1) := dk_42 (dk_at dksX2_follow_1 0 rfl rfl)
theorem dX2_follow_25 : decode cX2_follow 25 = .ok (.invokevirtual 57, 3) := dk_182 0 57 (dk_at dksX2_follow_1 1 rfl rfl)
theorem dX2_follow_28 : decode cX2_follow 28 = .ok (.aload_n 0, 1) := dk_42 (dk_at dksX2_follow_1 4 rfl rfl)
theorem dX2_follow_29 : decode cX2_follow 29 = .ok (.getfield 50, 3) := dk_180 0 50 (dk_at dksX2_follow_1 5 rfl rfl)
theorem dX2_follow_32 : decode cX2_follow 32 = .ok (.ireturn, 1) := dk_172 (dk_at dksX2_follow_1 8 rfl rfl)
abbrev cX2_lights : ByteArray := prog_8_method_7_code
def yX2_lights : MethodName := ⟨RX2, "lights", "(I)I"⟩
def dkwX2_lights_1 : List UInt8 := [29, 120, 167, 0, 4, 3, 128, 61, 132, 3, 1, 167, 255, 225, 28, 172]
abbrev dktX2_lights_1 : List UInt8 := dkwX2_lights_1 ++ []
def dkwX2_lights_0 : List UInt8 := [3, 61, 3, 62, 29, 7, 162, 0, 32, 28, 42, 180, 0, 18, 7, 27, 104, 29, 96, 46, 158, 0, 9, 4]
abbrev dktX2_lights_0 : List UInt8 := dkwX2_lights_0 ++ dktX2_lights_1
theorem dksX2_lights_0 : cX2_lights.data.toList.drop 0 = dktX2_lights_0 := by decide +kernel
theorem dksX2_lights_1 : cX2_lights.data.toList.drop 24 = dktX2_lights_1 := dk_seg dksX2_lights_0 24 rfl rfl
theorem dX2_lights_0 : decode cX2_lights 0 = .ok (.iconst 0, 1) := dk_3 (dk_at dksX2_lights_0 0 rfl rfl)
theorem dX2_lights_1 : decode cX2_lights 1 = .ok (.istore_n 2, 1) := dk_61 (dk_at dksX2_lights_0 1 rfl rfl)
theorem dX2_lights_2 : decode cX2_lights 2 = .ok (.iconst 0, 1) := dk_3 (dk_at dksX2_lights_0 2 rfl rfl)
theorem dX2_lights_3 : decode cX2_lights 3 = .ok (.istore_n 3, 1) := dk_62 (dk_at dksX2_lights_0 3 rfl rfl)
theorem dX2_lights_4 : decode cX2_lights 4 = .ok (.iload_n 3, 1) := dk_29 (dk_at dksX2_lights_0 4 rfl rfl)
theorem dX2_lights_5 : decode cX2_lights 5 = .ok (.iconst 4, 1) := dk_7 (dk_at dksX2_lights_0 5 rfl rfl)
theorem dX2_lights_6 : decode cX2_lights 6 = .ok (.if_icmp .ge 32, 3) := dk_162 0 32 (dk_at dksX2_lights_0 6 rfl rfl)
theorem dX2_lights_9 : decode cX2_lights 9 = .ok (.iload_n 2, 1) := dk_28 (dk_at dksX2_lights_0 9 rfl rfl)
theorem dX2_lights_10 : decode cX2_lights 10 = .ok (.aload_n 0, 1) := dk_42 (dk_at dksX2_lights_0 10 rfl rfl)
theorem dX2_lights_11 : decode cX2_lights 11 = .ok (.getfield 18, 3) := dk_180 0 18 (dk_at dksX2_lights_0 11 rfl rfl)
theorem dX2_lights_14 : decode cX2_lights 14 = .ok (.iconst 4, 1) := dk_7 (dk_at dksX2_lights_0 14 rfl rfl)
theorem dX2_lights_15 : decode cX2_lights 15 = .ok (.iload_n 1, 1) := dk_27 (dk_at dksX2_lights_0 15 rfl rfl)
theorem dX2_lights_16 : decode cX2_lights 16 = .ok (.imul, 1) := dk_104 (dk_at dksX2_lights_0 16 rfl rfl)
theorem dX2_lights_17 : decode cX2_lights 17 = .ok (.iload_n 3, 1) := dk_29 (dk_at dksX2_lights_0 17 rfl rfl)
theorem dX2_lights_18 : decode cX2_lights 18 = .ok (.iadd, 1) := dk_96 (dk_at dksX2_lights_0 18 rfl rfl)
theorem dX2_lights_19 : decode cX2_lights 19 = .ok (.iaload, 1) := dk_46 (dk_at dksX2_lights_0 19 rfl rfl)
theorem dX2_lights_20 : decode cX2_lights 20 = .ok (.ifCond .le 9, 3) := dk_158 0 9 (dk_at dksX2_lights_0 20 rfl rfl)
theorem dX2_lights_23 : decode cX2_lights 23 = .ok (.iconst 1, 1) := dk_4 (dk_at dksX2_lights_0 23 rfl rfl)
theorem dX2_lights_24 : decode cX2_lights 24 = .ok (.iload_n 3, 1) := dk_29 (dk_at dksX2_lights_1 0 rfl rfl)
theorem dX2_lights_25 : decode cX2_lights 25 = .ok (.ishl, 1) := dk_120 (dk_at dksX2_lights_1 1 rfl rfl)
theorem dX2_lights_26 : decode cX2_lights 26 = .ok (.goto 4, 3) := dk_167 0 4 (dk_at dksX2_lights_1 2 rfl rfl)
theorem dX2_lights_29 : decode cX2_lights 29 = .ok (.iconst 0, 1) := dk_3 (dk_at dksX2_lights_1 5 rfl rfl)
theorem dX2_lights_30 : decode cX2_lights 30 = .ok (.ior, 1) := dk_128 (dk_at dksX2_lights_1 6 rfl rfl)
theorem dX2_lights_31 : decode cX2_lights 31 = .ok (.istore_n 2, 1) := dk_61 (dk_at dksX2_lights_1 7 rfl rfl)
theorem dX2_lights_32 : decode cX2_lights 32 = .ok (.iinc 3 1, 3) := dk_132 3 1 (dk_at dksX2_lights_1 8 rfl rfl)
theorem dX2_lights_35 : decode cX2_lights 35 = .ok (.goto (-31), 3) := dk_167 255 225 (dk_at dksX2_lights_1 11 rfl rfl)
theorem dX2_lights_38 : decode cX2_lights 38 = .ok (.iload_n 2, 1) := dk_28 (dk_at dksX2_lights_1 14 rfl rfl)
theorem dX2_lights_39 : decode cX2_lights 39 = .ok (.ireturn, 1) := dk_172 (dk_at dksX2_lights_1 15 rfl rfl)
abbrev cX2_gap : ByteArray := prog_8_method_13_code
def yX2_gap : MethodName := ⟨RX2, "gap", "()I"⟩
def dkwX2_gap_6 : List UInt8 := [132, 2, 1, 167, 255, 224, 27, 172]
abbrev dktX2_gap_6 : List UInt8 := dkwX2_gap_6 ++ []
def dkwX2_gap_5 : List UInt8 := [162, 0, 30, 27, 42, 180, 0, 24, 28, 46, 42, 180, 0, 96, 160, 0, 7, 3, 167, 0, 4, 4, 96, 60]
abbrev dktX2_gap_5 : List UInt8 := dkwX2_gap_5 ++ dktX2_gap_6
def dkwX2_gap_4 : List UInt8 := [42, 180, 0, 96, 79, 132, 4, 1, 167, 255, 190, 132, 2, 1, 167, 255, 162, 4, 61, 28, 42, 180, 0, 63]
abbrev dktX2_gap_4 : List UInt8 := dkwX2_gap_4 ++ dktX2_gap_5
def dkwX2_gap_3 : List UInt8 := [180, 0, 24, 3, 21, 5, 184, 0, 103, 21, 5, 2, 160, 0, 12, 42, 180, 0, 24, 3, 46, 167, 0, 7]
abbrev dktX2_gap_3 : List UInt8 := dkwX2_gap_3 ++ dktX2_gap_4
def dkwX2_gap_2 : List UInt8 := [21, 4, 46, 182, 0, 87, 54, 5, 27, 21, 5, 2, 160, 0, 7, 4, 167, 0, 4, 3, 96, 60, 42]
abbrev dktX2_gap_2 : List UInt8 := dkwX2_gap_2 ++ dktX2_gap_3
def dkwX2_gap_1 : List UInt8 := [180, 0, 9, 28, 46, 182, 0, 83, 62, 3, 54, 4, 21, 4, 29, 162, 0, 66, 42, 42, 180, 0, 21]
abbrev dktX2_gap_1 : List UInt8 := dkwX2_gap_1 ++ dktX2_gap_2
def dkwX2_gap_0 : List UInt8 := [3, 60, 42, 89, 180, 0, 96, 4, 96, 181, 0, 96, 3, 61, 28, 42, 180, 0, 63, 162, 0, 92, 42, 42]
abbrev dktX2_gap_0 : List UInt8 := dkwX2_gap_0 ++ dktX2_gap_1
theorem dksX2_gap_0 : cX2_gap.data.toList.drop 0 = dktX2_gap_0 := by decide +kernel
theorem dksX2_gap_1 : cX2_gap.data.toList.drop 24 = dktX2_gap_1 := dk_seg dksX2_gap_0 24 rfl rfl
theorem dksX2_gap_2 : cX2_gap.data.toList.drop 47 = dktX2_gap_2 := dk_seg dksX2_gap_1 23 rfl rfl
theorem dksX2_gap_3 : cX2_gap.data.toList.drop 70 = dktX2_gap_3 := dk_seg dksX2_gap_2 23 rfl rfl
theorem dksX2_gap_4 : cX2_gap.data.toList.drop 94 = dktX2_gap_4 := dk_seg dksX2_gap_3 24 rfl rfl
theorem dksX2_gap_5 : cX2_gap.data.toList.drop 118 = dktX2_gap_5 := dk_seg dksX2_gap_4 24 rfl rfl
theorem dksX2_gap_6 : cX2_gap.data.toList.drop 142 = dktX2_gap_6 := dk_seg dksX2_gap_5 24 rfl rfl
theorem dX2_gap_0 : decode cX2_gap 0 = .ok (.iconst 0, 1) := dk_3 (dk_at dksX2_gap_0 0 rfl rfl)
theorem dX2_gap_1 : decode cX2_gap 1 = .ok (.istore_n 1, 1) := dk_60 (dk_at dksX2_gap_0 1 rfl rfl)
theorem dX2_gap_2 : decode cX2_gap 2 = .ok (.aload_n 0, 1) := dk_42 (dk_at dksX2_gap_0 2 rfl rfl)
theorem dX2_gap_3 : decode cX2_gap 3 = .ok (.dup, 1) := dk_89 (dk_at dksX2_gap_0 3 rfl rfl)
theorem dX2_gap_4 : decode cX2_gap 4 = .ok (.getfield 96, 3) := dk_180 0 96 (dk_at dksX2_gap_0 4 rfl rfl)
theorem dX2_gap_7 : decode cX2_gap 7 = .ok (.iconst 1, 1) := dk_4 (dk_at dksX2_gap_0 7 rfl rfl)
theorem dX2_gap_8 : decode cX2_gap 8 = .ok (.iadd, 1) := dk_96 (dk_at dksX2_gap_0 8 rfl rfl)
theorem dX2_gap_9 : decode cX2_gap 9 = .ok (.putfield 96, 3) := dk_181 0 96 (dk_at dksX2_gap_0 9 rfl rfl)
theorem dX2_gap_12 : decode cX2_gap 12 = .ok (.iconst 0, 1) := dk_3 (dk_at dksX2_gap_0 12 rfl rfl)
theorem dX2_gap_13 : decode cX2_gap 13 = .ok (.istore_n 2, 1) := dk_61 (dk_at dksX2_gap_0 13 rfl rfl)
theorem dX2_gap_14 : decode cX2_gap 14 = .ok (.iload_n 2, 1) := dk_28 (dk_at dksX2_gap_0 14 rfl rfl)
theorem dX2_gap_15 : decode cX2_gap 15 = .ok (.aload_n 0, 1) := dk_42 (dk_at dksX2_gap_0 15 rfl rfl)
theorem dX2_gap_16 : decode cX2_gap 16 = .ok (.getfield 63, 3) := dk_180 0 63 (dk_at dksX2_gap_0 16 rfl rfl)
theorem dX2_gap_19 : decode cX2_gap 19 = .ok (.if_icmp .ge 92, 3) := dk_162 0 92 (dk_at dksX2_gap_0 19 rfl rfl)
theorem dX2_gap_22 : decode cX2_gap 22 = .ok (.aload_n 0, 1) := dk_42 (dk_at dksX2_gap_0 22 rfl rfl)
theorem dX2_gap_23 : decode cX2_gap 23 = .ok (.aload_n 0, 1) := dk_42 (dk_at dksX2_gap_0 23 rfl rfl)
theorem dX2_gap_24 : decode cX2_gap 24 = .ok (.getfield 9, 3) := dk_180 0 9 (dk_at dksX2_gap_1 0 rfl rfl)
theorem dX2_gap_27 : decode cX2_gap 27 = .ok (.iload_n 2, 1) := dk_28 (dk_at dksX2_gap_1 3 rfl rfl)
theorem dX2_gap_28 : decode cX2_gap 28 = .ok (.iaload, 1) := dk_46 (dk_at dksX2_gap_1 4 rfl rfl)
theorem dX2_gap_29 : decode cX2_gap 29 = .ok (.invokevirtual 83, 3) := dk_182 0 83 (dk_at dksX2_gap_1 5 rfl rfl)
theorem dX2_gap_32 : decode cX2_gap 32 = .ok (.istore_n 3, 1) := dk_62 (dk_at dksX2_gap_1 8 rfl rfl)
theorem dX2_gap_33 : decode cX2_gap 33 = .ok (.iconst 0, 1) := dk_3 (dk_at dksX2_gap_1 9 rfl rfl)
theorem dX2_gap_34 : decode cX2_gap 34 = .ok (.istore 4, 2) := dk_54 4 (dk_at dksX2_gap_1 10 rfl rfl)
theorem dX2_gap_36 : decode cX2_gap 36 = .ok (.iload 4, 2) := dk_21 4 (dk_at dksX2_gap_1 12 rfl rfl)
theorem dX2_gap_38 : decode cX2_gap 38 = .ok (.iload_n 3, 1) := dk_29 (dk_at dksX2_gap_1 14 rfl rfl)
theorem dX2_gap_39 : decode cX2_gap 39 = .ok (.if_icmp .ge 66, 3) := dk_162 0 66 (dk_at dksX2_gap_1 15 rfl rfl)
theorem dX2_gap_42 : decode cX2_gap 42 = .ok (.aload_n 0, 1) := dk_42 (dk_at dksX2_gap_1 18 rfl rfl)
theorem dX2_gap_43 : decode cX2_gap 43 = .ok (.aload_n 0, 1) := dk_42 (dk_at dksX2_gap_1 19 rfl rfl)
theorem dX2_gap_44 : decode cX2_gap 44 = .ok (.getfield 21, 3) := dk_180 0 21 (dk_at dksX2_gap_1 20 rfl rfl)
theorem dX2_gap_47 : decode cX2_gap 47 = .ok (.iload 4, 2) := dk_21 4 (dk_at dksX2_gap_2 0 rfl rfl)
theorem dX2_gap_49 : decode cX2_gap 49 = .ok (.iaload, 1) := dk_46 (dk_at dksX2_gap_2 2 rfl rfl)
theorem dX2_gap_50 : decode cX2_gap 50 = .ok (.invokevirtual 87, 3) := dk_182 0 87 (dk_at dksX2_gap_2 3 rfl rfl)
theorem dX2_gap_53 : decode cX2_gap 53 = .ok (.istore 5, 2) := dk_54 5 (dk_at dksX2_gap_2 6 rfl rfl)
theorem dX2_gap_55 : decode cX2_gap 55 = .ok (.iload_n 1, 1) := dk_27 (dk_at dksX2_gap_2 8 rfl rfl)
theorem dX2_gap_56 : decode cX2_gap 56 = .ok (.iload 5, 2) := dk_21 5 (dk_at dksX2_gap_2 9 rfl rfl)
theorem dX2_gap_58 : decode cX2_gap 58 = .ok (.iconst (-1), 1) := dk_2 (dk_at dksX2_gap_2 11 rfl rfl)
theorem dX2_gap_59 : decode cX2_gap 59 = .ok (.if_icmp .ne 7, 3) := dk_160 0 7 (dk_at dksX2_gap_2 12 rfl rfl)
theorem dX2_gap_62 : decode cX2_gap 62 = .ok (.iconst 1, 1) := dk_4 (dk_at dksX2_gap_2 15 rfl rfl)
theorem dX2_gap_63 : decode cX2_gap 63 = .ok (.goto 4, 3) := dk_167 0 4 (dk_at dksX2_gap_2 16 rfl rfl)
theorem dX2_gap_66 : decode cX2_gap 66 = .ok (.iconst 0, 1) := dk_3 (dk_at dksX2_gap_2 19 rfl rfl)
theorem dX2_gap_67 : decode cX2_gap 67 = .ok (.iadd, 1) := dk_96 (dk_at dksX2_gap_2 20 rfl rfl)
theorem dX2_gap_68 : decode cX2_gap 68 = .ok (.istore_n 1, 1) := dk_60 (dk_at dksX2_gap_2 21 rfl rfl)
theorem dX2_gap_69 : decode cX2_gap 69 = .ok (.aload_n 0, 1) := dk_42 (dk_at dksX2_gap_2 22 rfl rfl)
theorem dX2_gap_70 : decode cX2_gap 70 = .ok (.getfield 24, 3) := dk_180 0 24 (dk_at dksX2_gap_3 0 rfl rfl)
theorem dX2_gap_73 : decode cX2_gap 73 = .ok (.iconst 0, 1) := dk_3 (dk_at dksX2_gap_3 3 rfl rfl)
theorem dX2_gap_74 : decode cX2_gap 74 = .ok (.iload 5, 2) := dk_21 5 (dk_at dksX2_gap_3 4 rfl rfl)
theorem dX2_gap_76 : decode cX2_gap 76 = .ok (.invokestatic 103, 3) := dk_184 0 103 (dk_at dksX2_gap_3 6 rfl rfl)
theorem dX2_gap_79 : decode cX2_gap 79 = .ok (.iload 5, 2) := dk_21 5 (dk_at dksX2_gap_3 9 rfl rfl)
theorem dX2_gap_81 : decode cX2_gap 81 = .ok (.iconst (-1), 1) := dk_2 (dk_at dksX2_gap_3 11 rfl rfl)
theorem dX2_gap_82 : decode cX2_gap 82 = .ok (.if_icmp .ne 12, 3) := dk_160 0 12 (dk_at dksX2_gap_3 12 rfl rfl)
theorem dX2_gap_85 : decode cX2_gap 85 = .ok (.aload_n 0, 1) := dk_42 (dk_at dksX2_gap_3 15 rfl rfl)
theorem dX2_gap_86 : decode cX2_gap 86 = .ok (.getfield 24, 3) := dk_180 0 24 (dk_at dksX2_gap_3 16 rfl rfl)
theorem dX2_gap_89 : decode cX2_gap 89 = .ok (.iconst 0, 1) := dk_3 (dk_at dksX2_gap_3 19 rfl rfl)
theorem dX2_gap_90 : decode cX2_gap 90 = .ok (.iaload, 1) := dk_46 (dk_at dksX2_gap_3 20 rfl rfl)
theorem dX2_gap_91 : decode cX2_gap 91 = .ok (.goto 7, 3) := dk_167 0 7 (dk_at dksX2_gap_3 21 rfl rfl)
theorem dX2_gap_94 : decode cX2_gap 94 = .ok (.aload_n 0, 1) := dk_42 (dk_at dksX2_gap_4 0 rfl rfl)
theorem dX2_gap_95 : decode cX2_gap 95 = .ok (.getfield 96, 3) := dk_180 0 96 (dk_at dksX2_gap_4 1 rfl rfl)
theorem dX2_gap_98 : decode cX2_gap 98 = .ok (.iastore, 1) := dk_79 (dk_at dksX2_gap_4 4 rfl rfl)
theorem dX2_gap_99 : decode cX2_gap 99 = .ok (.iinc 4 1, 3) := dk_132 4 1 (dk_at dksX2_gap_4 5 rfl rfl)
theorem dX2_gap_102 : decode cX2_gap 102 = .ok (.goto (-66), 3) := dk_167 255 190 (dk_at dksX2_gap_4 8 rfl rfl)
theorem dX2_gap_105 : decode cX2_gap 105 = .ok (.iinc 2 1, 3) := dk_132 2 1 (dk_at dksX2_gap_4 11 rfl rfl)
theorem dX2_gap_108 : decode cX2_gap 108 = .ok (.goto (-94), 3) := dk_167 255 162 (dk_at dksX2_gap_4 14 rfl rfl)
theorem dX2_gap_111 : decode cX2_gap 111 = .ok (.iconst 1, 1) := dk_4 (dk_at dksX2_gap_4 17 rfl rfl)
theorem dX2_gap_112 : decode cX2_gap 112 = .ok (.istore_n 2, 1) := dk_61 (dk_at dksX2_gap_4 18 rfl rfl)
theorem dX2_gap_113 : decode cX2_gap 113 = .ok (.iload_n 2, 1) := dk_28 (dk_at dksX2_gap_4 19 rfl rfl)
theorem dX2_gap_114 : decode cX2_gap 114 = .ok (.aload_n 0, 1) := dk_42 (dk_at dksX2_gap_4 20 rfl rfl)
theorem dX2_gap_115 : decode cX2_gap 115 = .ok (.getfield 63, 3) := dk_180 0 63 (dk_at dksX2_gap_4 21 rfl rfl)
theorem dX2_gap_118 : decode cX2_gap 118 = .ok (.if_icmp .ge 30, 3) := dk_162 0 30 (dk_at dksX2_gap_5 0 rfl rfl)
theorem dX2_gap_121 : decode cX2_gap 121 = .ok (.iload_n 1, 1) := dk_27 (dk_at dksX2_gap_5 3 rfl rfl)
theorem dX2_gap_122 : decode cX2_gap 122 = .ok (.aload_n 0, 1) := dk_42 (dk_at dksX2_gap_5 4 rfl rfl)
theorem dX2_gap_123 : decode cX2_gap 123 = .ok (.getfield 24, 3) := dk_180 0 24 (dk_at dksX2_gap_5 5 rfl rfl)
theorem dX2_gap_126 : decode cX2_gap 126 = .ok (.iload_n 2, 1) := dk_28 (dk_at dksX2_gap_5 8 rfl rfl)
theorem dX2_gap_127 : decode cX2_gap 127 = .ok (.iaload, 1) := dk_46 (dk_at dksX2_gap_5 9 rfl rfl)
theorem dX2_gap_128 : decode cX2_gap 128 = .ok (.aload_n 0, 1) := dk_42 (dk_at dksX2_gap_5 10 rfl rfl)
theorem dX2_gap_129 : decode cX2_gap 129 = .ok (.getfield 96, 3) := dk_180 0 96 (dk_at dksX2_gap_5 11 rfl rfl)
theorem dX2_gap_132 : decode cX2_gap 132 = .ok (.if_icmp .ne 7, 3) := dk_160 0 7 (dk_at dksX2_gap_5 14 rfl rfl)
theorem dX2_gap_135 : decode cX2_gap 135 = .ok (.iconst 0, 1) := dk_3 (dk_at dksX2_gap_5 17 rfl rfl)
theorem dX2_gap_136 : decode cX2_gap 136 = .ok (.goto 4, 3) := dk_167 0 4 (dk_at dksX2_gap_5 18 rfl rfl)
theorem dX2_gap_139 : decode cX2_gap 139 = .ok (.iconst 1, 1) := dk_4 (dk_at dksX2_gap_5 21 rfl rfl)
theorem dX2_gap_140 : decode cX2_gap 140 = .ok (.iadd, 1) := dk_96 (dk_at dksX2_gap_5 22 rfl rfl)
theorem dX2_gap_141 : decode cX2_gap 141 = .ok (.istore_n 1, 1) := dk_60 (dk_at dksX2_gap_5 23 rfl rfl)
theorem dX2_gap_142 : decode cX2_gap 142 = .ok (.iinc 2 1, 3) := dk_132 2 1 (dk_at dksX2_gap_6 0 rfl rfl)
theorem dX2_gap_145 : decode cX2_gap 145 = .ok (.goto (-32), 3) := dk_167 255 224 (dk_at dksX2_gap_6 3 rfl rfl)
theorem dX2_gap_148 : decode cX2_gap 148 = .ok (.iload_n 1, 1) := dk_27 (dk_at dksX2_gap_6 6 rfl rfl)
theorem dX2_gap_149 : decode cX2_gap 149 = .ok (.ireturn, 1) := dk_172 (dk_at dksX2_gap_6 7 rfl rfl)
abbrev cX2_numberOf : ByteArray := prog_8_method_5_code
def yX2_numberOf : MethodName := ⟨RX2, "numberOf", "(I)I"⟩
def dkwX2_numberOf_0 : List UInt8 := [42, 180, 0, 18, 27, 46, 4, 100, 172]
abbrev dktX2_numberOf_0 : List UInt8 := dkwX2_numberOf_0 ++ []
theorem dksX2_numberOf_0 : cX2_numberOf.data.toList.drop 0 = dktX2_numberOf_0 := by decide +kernel
theorem dX2_numberOf_0 : decode cX2_numberOf 0 = .ok (.aload_n 0, 1) := dk_42 (dk_at dksX2_numberOf_0 0 rfl rfl)
theorem dX2_numberOf_1 : decode cX2_numberOf 1 = .ok (.getfield 18, 3) := dk_180 0 18 (dk_at dksX2_numberOf_0 1 rfl rfl)
theorem dX2_numberOf_4 : decode cX2_numberOf 4 = .ok (.iload_n 1, 1) := dk_27 (dk_at dksX2_numberOf_0 4 rfl rfl)
theorem dX2_numberOf_5 : decode cX2_numberOf 5 = .ok (.iaload, 1) := dk_46 (dk_at dksX2_numberOf_0 5 rfl rfl)
theorem dX2_numberOf_6 : decode cX2_numberOf 6 = .ok (.iconst 1, 1) := dk_4 (dk_at dksX2_numberOf_0 6 rfl rfl)
theorem dX2_numberOf_7 : decode cX2_numberOf 7 = .ok (.isub, 1) := dk_100 (dk_at dksX2_numberOf_0 7 rfl rfl)
theorem dX2_numberOf_8 : decode cX2_numberOf 8 = .ok (.ireturn, 1) := dk_172 (dk_at dksX2_numberOf_0 8 rfl rfl)
abbrev cX2_stepsTo : ByteArray := prog_8_method_8_code
def yX2_stepsTo : MethodName := ⟨RX2, "stepsTo", "(I)I"⟩
def dkwX2_stepsTo_2 : List UInt8 := [167, 255, 215, 28, 17, 3, 232, 160, 0, 7, 2, 167, 0, 4, 28, 172]
abbrev dktX2_stepsTo_2 : List UInt8 := dkwX2_stepsTo_2 ++ []
def dkwX2_stepsTo_1 : List UInt8 := [2, 160, 0, 7, 28, 167, 0, 14, 28, 42, 180, 0, 15, 21, 4, 46, 184, 0, 90, 61, 132, 3, 1]
abbrev dktX2_stepsTo_1 : List UInt8 := dkwX2_stepsTo_1 ++ dktX2_stepsTo_2
def dkwX2_stepsTo_0 : List UInt8 := [17, 3, 232, 61, 3, 62, 29, 7, 162, 0, 42, 42, 7, 27, 104, 29, 96, 182, 0, 87, 54, 4, 21, 4]
abbrev dktX2_stepsTo_0 : List UInt8 := dkwX2_stepsTo_0 ++ dktX2_stepsTo_1
theorem dksX2_stepsTo_0 : cX2_stepsTo.data.toList.drop 0 = dktX2_stepsTo_0 := by decide +kernel
theorem dksX2_stepsTo_1 : cX2_stepsTo.data.toList.drop 24 = dktX2_stepsTo_1 := dk_seg dksX2_stepsTo_0 24 rfl rfl
theorem dksX2_stepsTo_2 : cX2_stepsTo.data.toList.drop 47 = dktX2_stepsTo_2 := dk_seg dksX2_stepsTo_1 23 rfl rfl
theorem dX2_stepsTo_0 : decode cX2_stepsTo 0 = .ok (.sipush 1000, 3) := dk_17 3 232 (dk_at dksX2_stepsTo_0 0 rfl rfl)
theorem dX2_stepsTo_3 : decode cX2_stepsTo 3 = .ok (.istore_n 2, 1) := dk_61 (dk_at dksX2_stepsTo_0 3 rfl rfl)
theorem dX2_stepsTo_4 : decode cX2_stepsTo 4 = .ok (.iconst 0, 1) := dk_3 (dk_at dksX2_stepsTo_0 4 rfl rfl)
theorem dX2_stepsTo_5 : decode cX2_stepsTo 5 = .ok (.istore_n 3, 1) := dk_62 (dk_at dksX2_stepsTo_0 5 rfl rfl)
theorem dX2_stepsTo_6 : decode cX2_stepsTo 6 = .ok (.iload_n 3, 1) := dk_29 (dk_at dksX2_stepsTo_0 6 rfl rfl)
theorem dX2_stepsTo_7 : decode cX2_stepsTo 7 = .ok (.iconst 4, 1) := dk_7 (dk_at dksX2_stepsTo_0 7 rfl rfl)
theorem dX2_stepsTo_8 : decode cX2_stepsTo 8 = .ok (.if_icmp .ge 42, 3) := dk_162 0 42 (dk_at dksX2_stepsTo_0 8 rfl rfl)
theorem dX2_stepsTo_11 : decode cX2_stepsTo 11 = .ok (.aload_n 0, 1) := dk_42 (dk_at dksX2_stepsTo_0 11 rfl rfl)
theorem dX2_stepsTo_12 : decode cX2_stepsTo 12 = .ok (.iconst 4, 1) := dk_7 (dk_at dksX2_stepsTo_0 12 rfl rfl)
theorem dX2_stepsTo_13 : decode cX2_stepsTo 13 = .ok (.iload_n 1, 1) := dk_27 (dk_at dksX2_stepsTo_0 13 rfl rfl)
theorem dX2_stepsTo_14 : decode cX2_stepsTo 14 = .ok (.imul, 1) := dk_104 (dk_at dksX2_stepsTo_0 14 rfl rfl)
theorem dX2_stepsTo_15 : decode cX2_stepsTo 15 = .ok (.iload_n 3, 1) := dk_29 (dk_at dksX2_stepsTo_0 15 rfl rfl)
theorem dX2_stepsTo_16 : decode cX2_stepsTo 16 = .ok (.iadd, 1) := dk_96 (dk_at dksX2_stepsTo_0 16 rfl rfl)
theorem dX2_stepsTo_17 : decode cX2_stepsTo 17 = .ok (.invokevirtual 87, 3) := dk_182 0 87 (dk_at dksX2_stepsTo_0 17 rfl rfl)
theorem dX2_stepsTo_20 : decode cX2_stepsTo 20 = .ok (.istore 4, 2) := dk_54 4 (dk_at dksX2_stepsTo_0 20 rfl rfl)
theorem dX2_stepsTo_22 : decode cX2_stepsTo 22 = .ok (.iload 4, 2) := dk_21 4 (dk_at dksX2_stepsTo_0 22 rfl rfl)
theorem dX2_stepsTo_24 : decode cX2_stepsTo 24 = .ok (.iconst (-1), 1) := dk_2 (dk_at dksX2_stepsTo_1 0 rfl rfl)
theorem dX2_stepsTo_25 : decode cX2_stepsTo 25 = .ok (.if_icmp .ne 7, 3) := dk_160 0 7 (dk_at dksX2_stepsTo_1 1 rfl rfl)
theorem dX2_stepsTo_28 : decode cX2_stepsTo 28 = .ok (.iload_n 2, 1) := dk_28 (dk_at dksX2_stepsTo_1 4 rfl rfl)
theorem dX2_stepsTo_29 : decode cX2_stepsTo 29 = .ok (.goto 14, 3) := dk_167 0 14 (dk_at dksX2_stepsTo_1 5 rfl rfl)
theorem dX2_stepsTo_32 : decode cX2_stepsTo 32 = .ok (.iload_n 2, 1) := dk_28 (dk_at dksX2_stepsTo_1 8 rfl rfl)
theorem dX2_stepsTo_33 : decode cX2_stepsTo 33 = .ok (.aload_n 0, 1) := dk_42 (dk_at dksX2_stepsTo_1 9 rfl rfl)
theorem dX2_stepsTo_34 : decode cX2_stepsTo 34 = .ok (.getfield 15, 3) := dk_180 0 15 (dk_at dksX2_stepsTo_1 10 rfl rfl)
theorem dX2_stepsTo_37 : decode cX2_stepsTo 37 = .ok (.iload 4, 2) := dk_21 4 (dk_at dksX2_stepsTo_1 13 rfl rfl)
theorem dX2_stepsTo_39 : decode cX2_stepsTo 39 = .ok (.iaload, 1) := dk_46 (dk_at dksX2_stepsTo_1 15 rfl rfl)
theorem dX2_stepsTo_40 : decode cX2_stepsTo 40 = .ok (.invokestatic 90, 3) := dk_184 0 90 (dk_at dksX2_stepsTo_1 16 rfl rfl)
theorem dX2_stepsTo_43 : decode cX2_stepsTo 43 = .ok (.istore_n 2, 1) := dk_61 (dk_at dksX2_stepsTo_1 19 rfl rfl)
theorem dX2_stepsTo_44 : decode cX2_stepsTo 44 = .ok (.iinc 3 1, 3) := dk_132 3 1 (dk_at dksX2_stepsTo_1 20 rfl rfl)
theorem dX2_stepsTo_47 : decode cX2_stepsTo 47 = .ok (.goto (-41), 3) := dk_167 255 215 (dk_at dksX2_stepsTo_2 0 rfl rfl)
theorem dX2_stepsTo_50 : decode cX2_stepsTo 50 = .ok (.iload_n 2, 1) := dk_28 (dk_at dksX2_stepsTo_2 3 rfl rfl)
theorem dX2_stepsTo_51 : decode cX2_stepsTo 51 = .ok (.sipush 1000, 3) := dk_17 3 232 (dk_at dksX2_stepsTo_2 4 rfl rfl)
theorem dX2_stepsTo_54 : decode cX2_stepsTo 54 = .ok (.if_icmp .ne 7, 3) := dk_160 0 7 (dk_at dksX2_stepsTo_2 7 rfl rfl)
theorem dX2_stepsTo_57 : decode cX2_stepsTo 57 = .ok (.iconst (-1), 1) := dk_2 (dk_at dksX2_stepsTo_2 10 rfl rfl)
theorem dX2_stepsTo_58 : decode cX2_stepsTo 58 = .ok (.goto 4, 3) := dk_167 0 4 (dk_at dksX2_stepsTo_2 11 rfl rfl)
theorem dX2_stepsTo_61 : decode cX2_stepsTo 61 = .ok (.iload_n 2, 1) := dk_28 (dk_at dksX2_stepsTo_2 14 rfl rfl)
theorem dX2_stepsTo_62 : decode cX2_stepsTo 62 = .ok (.ireturn, 1) := dk_172 (dk_at dksX2_stepsTo_2 15 rfl rfl)
abbrev cX2_inRings : ByteArray := prog_8_method_10_code
def yX2_inRings : MethodName := ⟨RX2, "inRings", "()I"⟩
def dkwX2_inRings_1 : List UInt8 := [167, 0, 4, 3, 96, 60, 132, 2, 1, 167, 255, 229, 27, 172]
abbrev dktX2_inRings_1 : List UInt8 := dkwX2_inRings_1 ++ []
def dkwX2_inRings_0 : List UInt8 := [3, 60, 3, 61, 28, 42, 180, 0, 63, 162, 0, 25, 27, 42, 28, 182, 0, 99, 153, 0, 7, 4]
abbrev dktX2_inRings_0 : List UInt8 := dkwX2_inRings_0 ++ dktX2_inRings_1
theorem dksX2_inRings_0 : cX2_inRings.data.toList.drop 0 = dktX2_inRings_0 := by decide +kernel
theorem dksX2_inRings_1 : cX2_inRings.data.toList.drop 22 = dktX2_inRings_1 := dk_seg dksX2_inRings_0 22 rfl rfl
theorem dX2_inRings_0 : decode cX2_inRings 0 = .ok (.iconst 0, 1) := dk_3 (dk_at dksX2_inRings_0 0 rfl rfl)
theorem dX2_inRings_1 : decode cX2_inRings 1 = .ok (.istore_n 1, 1) := dk_60 (dk_at dksX2_inRings_0 1 rfl rfl)
theorem dX2_inRings_2 : decode cX2_inRings 2 = .ok (.iconst 0, 1) := dk_3 (dk_at dksX2_inRings_0 2 rfl rfl)
theorem dX2_inRings_3 : decode cX2_inRings 3 = .ok (.istore_n 2, 1) := dk_61 (dk_at dksX2_inRings_0 3 rfl rfl)
theorem dX2_inRings_4 : decode cX2_inRings 4 = .ok (.iload_n 2, 1) := dk_28 (dk_at dksX2_inRings_0 4 rfl rfl)
theorem dX2_inRings_5 : decode cX2_inRings 5 = .ok (.aload_n 0, 1) := dk_42 (dk_at dksX2_inRings_0 5 rfl rfl)
theorem dX2_inRings_6 : decode cX2_inRings 6 = .ok (.getfield 63, 3) := dk_180 0 63 (dk_at dksX2_inRings_0 6 rfl rfl)
theorem dX2_inRings_9 : decode cX2_inRings 9 = .ok (.if_icmp .ge 25, 3) := dk_162 0 25 (dk_at dksX2_inRings_0 9 rfl rfl)
theorem dX2_inRings_12 : decode cX2_inRings 12 = .ok (.iload_n 1, 1) := dk_27 (dk_at dksX2_inRings_0 12 rfl rfl)
theorem dX2_inRings_13 : decode cX2_inRings 13 = .ok (.aload_n 0, 1) := dk_42 (dk_at dksX2_inRings_0 13 rfl rfl)
theorem dX2_inRings_14 : decode cX2_inRings 14 = .ok (.iload_n 2, 1) := dk_28 (dk_at dksX2_inRings_0 14 rfl rfl)
theorem dX2_inRings_15 : decode cX2_inRings 15 = .ok (.invokevirtual 99, 3) := dk_182 0 99 (dk_at dksX2_inRings_0 15 rfl rfl)
theorem dX2_inRings_18 : decode cX2_inRings 18 = .ok (.ifCond .eq 7, 3) := dk_153 0 7 (dk_at dksX2_inRings_0 18 rfl rfl)
theorem dX2_inRings_21 : decode cX2_inRings 21 = .ok (.iconst 1, 1) := dk_4 (dk_at dksX2_inRings_0 21 rfl rfl)
theorem dX2_inRings_22 : decode cX2_inRings 22 = .ok (.goto 4, 3) := dk_167 0 4 (dk_at dksX2_inRings_1 0 rfl rfl)
theorem dX2_inRings_25 : decode cX2_inRings 25 = .ok (.iconst 0, 1) := dk_3 (dk_at dksX2_inRings_1 3 rfl rfl)
theorem dX2_inRings_26 : decode cX2_inRings 26 = .ok (.iadd, 1) := dk_96 (dk_at dksX2_inRings_1 4 rfl rfl)
theorem dX2_inRings_27 : decode cX2_inRings 27 = .ok (.istore_n 1, 1) := dk_60 (dk_at dksX2_inRings_1 5 rfl rfl)
theorem dX2_inRings_28 : decode cX2_inRings 28 = .ok (.iinc 2 1, 3) := dk_132 2 1 (dk_at dksX2_inRings_1 6 rfl rfl)
theorem dX2_inRings_31 : decode cX2_inRings 31 = .ok (.goto (-27), 3) := dk_167 255 229 (dk_at dksX2_inRings_1 9 rfl rfl)
theorem dX2_inRings_34 : decode cX2_inRings 34 = .ok (.iload_n 1, 1) := dk_27 (dk_at dksX2_inRings_1 12 rfl rfl)
theorem dX2_inRings_35 : decode cX2_inRings 35 = .ok (.ireturn, 1) := dk_172 (dk_at dksX2_inRings_1 13 rfl rfl)
abbrev cX2_isInRing : ByteArray := prog_8_method_9_code
def yX2_isInRing : MethodName := ⟨RX2, "isInRing", "(I)Z"⟩
def dkwX2_isInRing_5 : List UInt8 := [132, 3, 1, 167, 255, 158, 3, 172]
abbrev dktX2_isInRing_5 : List UInt8 := dkwX2_isInRing_5 ++ []
def dkwX2_isInRing_4 : List UInt8 := [21, 6, 42, 180, 0, 96, 79, 42, 180, 0, 27, 28, 21, 6, 79, 132, 2, 1, 132, 5, 1, 167, 255, 189]
abbrev dktX2_isInRing_4 : List UInt8 := dkwX2_isInRing_4 ++ dktX2_isInRing_5
def dkwX2_isInRing_3 : List UInt8 := [27, 160, 0, 5, 4, 172, 42, 180, 0, 24, 21, 6, 46, 42, 180, 0, 96, 159, 0, 25, 42, 180, 0, 24]
abbrev dktX2_isInRing_3 : List UInt8 := dkwX2_isInRing_3 ++ dktX2_isInRing_4
def dkwX2_isInRing_2 : List UInt8 := [54, 5, 21, 5, 21, 4, 162, 0, 66, 42, 42, 180, 0, 21, 21, 5, 46, 182, 0, 87, 54, 6, 21, 6]
abbrev dktX2_isInRing_2 : List UInt8 := dkwX2_isInRing_2 ++ dktX2_isInRing_3
def dkwX2_isInRing_1 : List UInt8 := [29, 28, 162, 0, 99, 42, 42, 180, 0, 9, 42, 180, 0, 27, 29, 46, 46, 182, 0, 83, 54, 4, 3]
abbrev dktX2_isInRing_1 : List UInt8 := dkwX2_isInRing_1 ++ dktX2_isInRing_2
def dkwX2_isInRing_0 : List UInt8 := [42, 89, 180, 0, 96, 4, 96, 181, 0, 96, 3, 61, 42, 180, 0, 27, 28, 27, 79, 132, 2, 1, 3, 62]
abbrev dktX2_isInRing_0 : List UInt8 := dkwX2_isInRing_0 ++ dktX2_isInRing_1
theorem dksX2_isInRing_0 : cX2_isInRing.data.toList.drop 0 = dktX2_isInRing_0 := by decide +kernel
theorem dksX2_isInRing_1 : cX2_isInRing.data.toList.drop 24 = dktX2_isInRing_1 := dk_seg dksX2_isInRing_0 24 rfl rfl
theorem dksX2_isInRing_2 : cX2_isInRing.data.toList.drop 47 = dktX2_isInRing_2 := dk_seg dksX2_isInRing_1 23 rfl rfl
theorem dksX2_isInRing_3 : cX2_isInRing.data.toList.drop 71 = dktX2_isInRing_3 := dk_seg dksX2_isInRing_2 24 rfl rfl
theorem dksX2_isInRing_4 : cX2_isInRing.data.toList.drop 95 = dktX2_isInRing_4 := dk_seg dksX2_isInRing_3 24 rfl rfl
theorem dksX2_isInRing_5 : cX2_isInRing.data.toList.drop 119 = dktX2_isInRing_5 := dk_seg dksX2_isInRing_4 24 rfl rfl
theorem dX2_isInRing_0 : decode cX2_isInRing 0 = .ok (.aload_n 0, 1) := dk_42 (dk_at dksX2_isInRing_0 0 rfl rfl)
theorem dX2_isInRing_1 : decode cX2_isInRing 1 = .ok (.dup, 1) := dk_89 (dk_at dksX2_isInRing_0 1 rfl rfl)
theorem dX2_isInRing_2 : decode cX2_isInRing 2 = .ok (.getfield 96, 3) := dk_180 0 96 (dk_at dksX2_isInRing_0 2 rfl rfl)
theorem dX2_isInRing_5 : decode cX2_isInRing 5 = .ok (.iconst 1, 1) := dk_4 (dk_at dksX2_isInRing_0 5 rfl rfl)
theorem dX2_isInRing_6 : decode cX2_isInRing 6 = .ok (.iadd, 1) := dk_96 (dk_at dksX2_isInRing_0 6 rfl rfl)
theorem dX2_isInRing_7 : decode cX2_isInRing 7 = .ok (.putfield 96, 3) := dk_181 0 96 (dk_at dksX2_isInRing_0 7 rfl rfl)
theorem dX2_isInRing_10 : decode cX2_isInRing 10 = .ok (.iconst 0, 1) := dk_3 (dk_at dksX2_isInRing_0 10 rfl rfl)
theorem dX2_isInRing_11 : decode cX2_isInRing 11 = .ok (.istore_n 2, 1) := dk_61 (dk_at dksX2_isInRing_0 11 rfl rfl)
theorem dX2_isInRing_12 : decode cX2_isInRing 12 = .ok (.aload_n 0, 1) := dk_42 (dk_at dksX2_isInRing_0 12 rfl rfl)
theorem dX2_isInRing_13 : decode cX2_isInRing 13 = .ok (.getfield 27, 3) := dk_180 0 27 (dk_at dksX2_isInRing_0 13 rfl rfl)
theorem dX2_isInRing_16 : decode cX2_isInRing 16 = .ok (.iload_n 2, 1) := dk_28 (dk_at dksX2_isInRing_0 16 rfl rfl)
theorem dX2_isInRing_17 : decode cX2_isInRing 17 = .ok (.iload_n 1, 1) := dk_27 (dk_at dksX2_isInRing_0 17 rfl rfl)
theorem dX2_isInRing_18 : decode cX2_isInRing 18 = .ok (.iastore, 1) := dk_79 (dk_at dksX2_isInRing_0 18 rfl rfl)
theorem dX2_isInRing_19 : decode cX2_isInRing 19 = .ok (.iinc 2 1, 3) := dk_132 2 1 (dk_at dksX2_isInRing_0 19 rfl rfl)
theorem dX2_isInRing_22 : decode cX2_isInRing 22 = .ok (.iconst 0, 1) := dk_3 (dk_at dksX2_isInRing_0 22 rfl rfl)
theorem dX2_isInRing_23 : decode cX2_isInRing 23 = .ok (.istore_n 3, 1) := dk_62 (dk_at dksX2_isInRing_0 23 rfl rfl)
theorem dX2_isInRing_24 : decode cX2_isInRing 24 = .ok (.iload_n 3, 1) := dk_29 (dk_at dksX2_isInRing_1 0 rfl rfl)
theorem dX2_isInRing_25 : decode cX2_isInRing 25 = .ok (.iload_n 2, 1) := dk_28 (dk_at dksX2_isInRing_1 1 rfl rfl)
theorem dX2_isInRing_26 : decode cX2_isInRing 26 = .ok (.if_icmp .ge 99, 3) := dk_162 0 99 (dk_at dksX2_isInRing_1 2 rfl rfl)
theorem dX2_isInRing_29 : decode cX2_isInRing 29 = .ok (.aload_n 0, 1) := dk_42 (dk_at dksX2_isInRing_1 5 rfl rfl)
theorem dX2_isInRing_30 : decode cX2_isInRing 30 = .ok (.aload_n 0, 1) := dk_42 (dk_at dksX2_isInRing_1 6 rfl rfl)
theorem dX2_isInRing_31 : decode cX2_isInRing 31 = .ok (.getfield 9, 3) := dk_180 0 9 (dk_at dksX2_isInRing_1 7 rfl rfl)
theorem dX2_isInRing_34 : decode cX2_isInRing 34 = .ok (.aload_n 0, 1) := dk_42 (dk_at dksX2_isInRing_1 10 rfl rfl)
theorem dX2_isInRing_35 : decode cX2_isInRing 35 = .ok (.getfield 27, 3) := dk_180 0 27 (dk_at dksX2_isInRing_1 11 rfl rfl)
theorem dX2_isInRing_38 : decode cX2_isInRing 38 = .ok (.iload_n 3, 1) := dk_29 (dk_at dksX2_isInRing_1 14 rfl rfl)
theorem dX2_isInRing_39 : decode cX2_isInRing 39 = .ok (.iaload, 1) := dk_46 (dk_at dksX2_isInRing_1 15 rfl rfl)
theorem dX2_isInRing_40 : decode cX2_isInRing 40 = .ok (.iaload, 1) := dk_46 (dk_at dksX2_isInRing_1 16 rfl rfl)
theorem dX2_isInRing_41 : decode cX2_isInRing 41 = .ok (.invokevirtual 83, 3) := dk_182 0 83 (dk_at dksX2_isInRing_1 17 rfl rfl)
theorem dX2_isInRing_44 : decode cX2_isInRing 44 = .ok (.istore 4, 2) := dk_54 4 (dk_at dksX2_isInRing_1 20 rfl rfl)
theorem dX2_isInRing_46 : decode cX2_isInRing 46 = .ok (.iconst 0, 1) := dk_3 (dk_at dksX2_isInRing_1 22 rfl rfl)
theorem dX2_isInRing_47 : decode cX2_isInRing 47 = .ok (.istore 5, 2) := dk_54 5 (dk_at dksX2_isInRing_2 0 rfl rfl)
theorem dX2_isInRing_49 : decode cX2_isInRing 49 = .ok (.iload 5, 2) := dk_21 5 (dk_at dksX2_isInRing_2 2 rfl rfl)
theorem dX2_isInRing_51 : decode cX2_isInRing 51 = .ok (.iload 4, 2) := dk_21 4 (dk_at dksX2_isInRing_2 4 rfl rfl)
theorem dX2_isInRing_53 : decode cX2_isInRing 53 = .ok (.if_icmp .ge 66, 3) := dk_162 0 66 (dk_at dksX2_isInRing_2 6 rfl rfl)
theorem dX2_isInRing_56 : decode cX2_isInRing 56 = .ok (.aload_n 0, 1) := dk_42 (dk_at dksX2_isInRing_2 9 rfl rfl)
theorem dX2_isInRing_57 : decode cX2_isInRing 57 = .ok (.aload_n 0, 1) := dk_42 (dk_at dksX2_isInRing_2 10 rfl rfl)
theorem dX2_isInRing_58 : decode cX2_isInRing 58 = .ok (.getfield 21, 3) := dk_180 0 21 (dk_at dksX2_isInRing_2 11 rfl rfl)
theorem dX2_isInRing_61 : decode cX2_isInRing 61 = .ok (.iload 5, 2) := dk_21 5 (dk_at dksX2_isInRing_2 14 rfl rfl)
theorem dX2_isInRing_63 : decode cX2_isInRing 63 = .ok (.iaload, 1) := dk_46 (dk_at dksX2_isInRing_2 16 rfl rfl)
theorem dX2_isInRing_64 : decode cX2_isInRing 64 = .ok (.invokevirtual 87, 3) := dk_182 0 87 (dk_at dksX2_isInRing_2 17 rfl rfl)
theorem dX2_isInRing_67 : decode cX2_isInRing 67 = .ok (.istore 6, 2) := dk_54 6 (dk_at dksX2_isInRing_2 20 rfl rfl)
theorem dX2_isInRing_69 : decode cX2_isInRing 69 = .ok (.iload 6, 2) := dk_21 6 (dk_at dksX2_isInRing_2 22 rfl rfl)
theorem dX2_isInRing_71 : decode cX2_isInRing 71 = .ok (.iload_n 1, 1) := dk_27 (dk_at dksX2_isInRing_3 0 rfl rfl)
theorem dX2_isInRing_72 : decode cX2_isInRing 72 = .ok (.if_icmp .ne 5, 3) := dk_160 0 5 (dk_at dksX2_isInRing_3 1 rfl rfl)
theorem dX2_isInRing_75 : decode cX2_isInRing 75 = .ok (.iconst 1, 1) := dk_4 (dk_at dksX2_isInRing_3 4 rfl rfl)
theorem dX2_isInRing_76 : decode cX2_isInRing 76 = .ok (.ireturn, 1) := dk_172 (dk_at dksX2_isInRing_3 5 rfl rfl)
theorem dX2_isInRing_77 : decode cX2_isInRing 77 = .ok (.aload_n 0, 1) := dk_42 (dk_at dksX2_isInRing_3 6 rfl rfl)
theorem dX2_isInRing_78 : decode cX2_isInRing 78 = .ok (.getfield 24, 3) := dk_180 0 24 (dk_at dksX2_isInRing_3 7 rfl rfl)
theorem dX2_isInRing_81 : decode cX2_isInRing 81 = .ok (.iload 6, 2) := dk_21 6 (dk_at dksX2_isInRing_3 10 rfl rfl)
theorem dX2_isInRing_83 : decode cX2_isInRing 83 = .ok (.iaload, 1) := dk_46 (dk_at dksX2_isInRing_3 12 rfl rfl)
theorem dX2_isInRing_84 : decode cX2_isInRing 84 = .ok (.aload_n 0, 1) := dk_42 (dk_at dksX2_isInRing_3 13 rfl rfl)
theorem dX2_isInRing_85 : decode cX2_isInRing 85 = .ok (.getfield 96, 3) := dk_180 0 96 (dk_at dksX2_isInRing_3 14 rfl rfl)
theorem dX2_isInRing_88 : decode cX2_isInRing 88 = .ok (.if_icmp .eq 25, 3) := dk_159 0 25 (dk_at dksX2_isInRing_3 17 rfl rfl)
theorem dX2_isInRing_91 : decode cX2_isInRing 91 = .ok (.aload_n 0, 1) := dk_42 (dk_at dksX2_isInRing_3 20 rfl rfl)
theorem dX2_isInRing_92 : decode cX2_isInRing 92 = .ok (.getfield 24, 3) := dk_180 0 24 (dk_at dksX2_isInRing_3 21 rfl rfl)
theorem dX2_isInRing_95 : decode cX2_isInRing 95 = .ok (.iload 6, 2) := dk_21 6 (dk_at dksX2_isInRing_4 0 rfl rfl)
theorem dX2_isInRing_97 : decode cX2_isInRing 97 = .ok (.aload_n 0, 1) := dk_42 (dk_at dksX2_isInRing_4 2 rfl rfl)
theorem dX2_isInRing_98 : decode cX2_isInRing 98 = .ok (.getfield 96, 3) := dk_180 0 96 (dk_at dksX2_isInRing_4 3 rfl rfl)
theorem dX2_isInRing_101 : decode cX2_isInRing 101 = .ok (.iastore, 1) := dk_79 (dk_at dksX2_isInRing_4 6 rfl rfl)
theorem dX2_isInRing_102 : decode cX2_isInRing 102 = .ok (.aload_n 0, 1) := dk_42 (dk_at dksX2_isInRing_4 7 rfl rfl)
theorem dX2_isInRing_103 : decode cX2_isInRing 103 = .ok (.getfield 27, 3) := dk_180 0 27 (dk_at dksX2_isInRing_4 8 rfl rfl)
theorem dX2_isInRing_106 : decode cX2_isInRing 106 = .ok (.iload_n 2, 1) := dk_28 (dk_at dksX2_isInRing_4 11 rfl rfl)
theorem dX2_isInRing_107 : decode cX2_isInRing 107 = .ok (.iload 6, 2) := dk_21 6 (dk_at dksX2_isInRing_4 12 rfl rfl)
theorem dX2_isInRing_109 : decode cX2_isInRing 109 = .ok (.iastore, 1) := dk_79 (dk_at dksX2_isInRing_4 14 rfl rfl)
theorem dX2_isInRing_110 : decode cX2_isInRing 110 = .ok (.iinc 2 1, 3) := dk_132 2 1 (dk_at dksX2_isInRing_4 15 rfl rfl)
theorem dX2_isInRing_113 : decode cX2_isInRing 113 = .ok (.iinc 5 1, 3) := dk_132 5 1 (dk_at dksX2_isInRing_4 18 rfl rfl)
theorem dX2_isInRing_116 : decode cX2_isInRing 116 = .ok (.goto (-67), 3) := dk_167 255 189 (dk_at dksX2_isInRing_4 21 rfl rfl)
theorem dX2_isInRing_119 : decode cX2_isInRing 119 = .ok (.iinc 3 1, 3) := dk_132 3 1 (dk_at dksX2_isInRing_5 0 rfl rfl)
theorem dX2_isInRing_122 : decode cX2_isInRing 122 = .ok (.goto (-98), 3) := dk_167 255 158 (dk_at dksX2_isInRing_5 3 rfl rfl)
theorem dX2_isInRing_125 : decode cX2_isInRing 125 = .ok (.iconst 0, 1) := dk_3 (dk_at dksX2_isInRing_5 6 rfl rfl)
theorem dX2_isInRing_126 : decode cX2_isInRing 126 = .ok (.ireturn, 1) := dk_172 (dk_at dksX2_isInRing_5 7 rfl rfl)
abbrev cX2_stopped : ByteArray := prog_8_method_12_code
def yX2_stopped : MethodName := ⟨RX2, "stopped", "()I"⟩
def dkwX2_stopped_2 : List UInt8 := [112, 159, 0, 7, 4, 167, 0, 4, 3, 96, 60, 132, 2, 1, 167, 255, 198, 27, 172]
abbrev dktX2_stopped_2 : List UInt8 := dkwX2_stopped_2 ++ []
def dkwX2_stopped_1 : List UInt8 := [46, 7, 108, 50, 78, 27, 45, 193, 0, 106, 153, 0, 22, 45, 182, 0, 108, 42, 180, 0, 9, 28, 46, 7]
abbrev dktX2_stopped_1 : List UInt8 := dkwX2_stopped_1 ++ dktX2_stopped_2
def dkwX2_stopped_0 : List UInt8 := [3, 60, 3, 61, 28, 42, 180, 0, 63, 162, 0, 56, 42, 180, 0, 36, 180, 0, 53, 42, 180, 0, 9, 28]
abbrev dktX2_stopped_0 : List UInt8 := dkwX2_stopped_0 ++ dktX2_stopped_1
theorem dksX2_stopped_0 : cX2_stopped.data.toList.drop 0 = dktX2_stopped_0 := by decide +kernel
theorem dksX2_stopped_1 : cX2_stopped.data.toList.drop 24 = dktX2_stopped_1 := dk_seg dksX2_stopped_0 24 rfl rfl
theorem dksX2_stopped_2 : cX2_stopped.data.toList.drop 48 = dktX2_stopped_2 := dk_seg dksX2_stopped_1 24 rfl rfl
theorem dX2_stopped_0 : decode cX2_stopped 0 = .ok (.iconst 0, 1) := dk_3 (dk_at dksX2_stopped_0 0 rfl rfl)
theorem dX2_stopped_1 : decode cX2_stopped 1 = .ok (.istore_n 1, 1) := dk_60 (dk_at dksX2_stopped_0 1 rfl rfl)
theorem dX2_stopped_2 : decode cX2_stopped 2 = .ok (.iconst 0, 1) := dk_3 (dk_at dksX2_stopped_0 2 rfl rfl)
theorem dX2_stopped_3 : decode cX2_stopped 3 = .ok (.istore_n 2, 1) := dk_61 (dk_at dksX2_stopped_0 3 rfl rfl)
theorem dX2_stopped_4 : decode cX2_stopped 4 = .ok (.iload_n 2, 1) := dk_28 (dk_at dksX2_stopped_0 4 rfl rfl)
theorem dX2_stopped_5 : decode cX2_stopped 5 = .ok (.aload_n 0, 1) := dk_42 (dk_at dksX2_stopped_0 5 rfl rfl)
theorem dX2_stopped_6 : decode cX2_stopped 6 = .ok (.getfield 63, 3) := dk_180 0 63 (dk_at dksX2_stopped_0 6 rfl rfl)
theorem dX2_stopped_9 : decode cX2_stopped 9 = .ok (.if_icmp .ge 56, 3) := dk_162 0 56 (dk_at dksX2_stopped_0 9 rfl rfl)
theorem dX2_stopped_12 : decode cX2_stopped 12 = .ok (.aload_n 0, 1) := dk_42 (dk_at dksX2_stopped_0 12 rfl rfl)
theorem dX2_stopped_13 : decode cX2_stopped 13 = .ok (.getfield 36, 3) := dk_180 0 36 (dk_at dksX2_stopped_0 13 rfl rfl)
theorem dX2_stopped_16 : decode cX2_stopped 16 = .ok (.getfield 53, 3) := dk_180 0 53 (dk_at dksX2_stopped_0 16 rfl rfl)
theorem dX2_stopped_19 : decode cX2_stopped 19 = .ok (.aload_n 0, 1) := dk_42 (dk_at dksX2_stopped_0 19 rfl rfl)
theorem dX2_stopped_20 : decode cX2_stopped 20 = .ok (.getfield 9, 3) := dk_180 0 9 (dk_at dksX2_stopped_0 20 rfl rfl)
theorem dX2_stopped_23 : decode cX2_stopped 23 = .ok (.iload_n 2, 1) := dk_28 (dk_at dksX2_stopped_0 23 rfl rfl)
theorem dX2_stopped_24 : decode cX2_stopped 24 = .ok (.iaload, 1) := dk_46 (dk_at dksX2_stopped_1 0 rfl rfl)
theorem dX2_stopped_25 : decode cX2_stopped 25 = .ok (.iconst 4, 1) := dk_7 (dk_at dksX2_stopped_1 1 rfl rfl)
theorem dX2_stopped_26 : decode cX2_stopped 26 = .ok (.idiv, 1) := dk_108 (dk_at dksX2_stopped_1 2 rfl rfl)
theorem dX2_stopped_27 : decode cX2_stopped 27 = .ok (.aaload, 1) := dk_50 (dk_at dksX2_stopped_1 3 rfl rfl)
theorem dX2_stopped_28 : decode cX2_stopped 28 = .ok (.astore_n 3, 1) := dk_78 (dk_at dksX2_stopped_1 4 rfl rfl)
theorem dX2_stopped_29 : decode cX2_stopped 29 = .ok (.iload_n 1, 1) := dk_27 (dk_at dksX2_stopped_1 5 rfl rfl)
theorem dX2_stopped_30 : decode cX2_stopped 30 = .ok (.aload_n 3, 1) := dk_45 (dk_at dksX2_stopped_1 6 rfl rfl)
theorem dX2_stopped_31 : decode cX2_stopped 31 = .ok (.instanceof 106, 3) := dk_193 0 106 (dk_at dksX2_stopped_1 7 rfl rfl)
theorem dX2_stopped_34 : decode cX2_stopped 34 = .ok (.ifCond .eq 22, 3) := dk_153 0 22 (dk_at dksX2_stopped_1 10 rfl rfl)
theorem dX2_stopped_37 : decode cX2_stopped 37 = .ok (.aload_n 3, 1) := dk_45 (dk_at dksX2_stopped_1 13 rfl rfl)
theorem dX2_stopped_38 : decode cX2_stopped 38 = .ok (.invokevirtual 108, 3) := dk_182 0 108 (dk_at dksX2_stopped_1 14 rfl rfl)
theorem dX2_stopped_41 : decode cX2_stopped 41 = .ok (.aload_n 0, 1) := dk_42 (dk_at dksX2_stopped_1 17 rfl rfl)
theorem dX2_stopped_42 : decode cX2_stopped 42 = .ok (.getfield 9, 3) := dk_180 0 9 (dk_at dksX2_stopped_1 18 rfl rfl)
theorem dX2_stopped_45 : decode cX2_stopped 45 = .ok (.iload_n 2, 1) := dk_28 (dk_at dksX2_stopped_1 21 rfl rfl)
theorem dX2_stopped_46 : decode cX2_stopped 46 = .ok (.iaload, 1) := dk_46 (dk_at dksX2_stopped_1 22 rfl rfl)
theorem dX2_stopped_47 : decode cX2_stopped 47 = .ok (.iconst 4, 1) := dk_7 (dk_at dksX2_stopped_1 23 rfl rfl)
theorem dX2_stopped_48 : decode cX2_stopped 48 = .ok (.irem, 1) := dk_112 (dk_at dksX2_stopped_2 0 rfl rfl)
theorem dX2_stopped_49 : decode cX2_stopped 49 = .ok (.if_icmp .eq 7, 3) := dk_159 0 7 (dk_at dksX2_stopped_2 1 rfl rfl)
theorem dX2_stopped_52 : decode cX2_stopped 52 = .ok (.iconst 1, 1) := dk_4 (dk_at dksX2_stopped_2 4 rfl rfl)
theorem dX2_stopped_53 : decode cX2_stopped 53 = .ok (.goto 4, 3) := dk_167 0 4 (dk_at dksX2_stopped_2 5 rfl rfl)
theorem dX2_stopped_56 : decode cX2_stopped 56 = .ok (.iconst 0, 1) := dk_3 (dk_at dksX2_stopped_2 8 rfl rfl)
theorem dX2_stopped_57 : decode cX2_stopped 57 = .ok (.iadd, 1) := dk_96 (dk_at dksX2_stopped_2 9 rfl rfl)
theorem dX2_stopped_58 : decode cX2_stopped 58 = .ok (.istore_n 1, 1) := dk_60 (dk_at dksX2_stopped_2 10 rfl rfl)
theorem dX2_stopped_59 : decode cX2_stopped 59 = .ok (.iinc 2 1, 3) := dk_132 2 1 (dk_at dksX2_stopped_2 11 rfl rfl)
theorem dX2_stopped_62 : decode cX2_stopped 62 = .ok (.goto (-58), 3) := dk_167 255 198 (dk_at dksX2_stopped_2 14 rfl rfl)
theorem dX2_stopped_65 : decode cX2_stopped 65 = .ok (.iload_n 1, 1) := dk_27 (dk_at dksX2_stopped_2 17 rfl rfl)
theorem dX2_stopped_66 : decode cX2_stopped 66 = .ok (.ireturn, 1) := dk_172 (dk_at dksX2_stopped_2 18 rfl rfl)
abbrev cX2_mostFollowing : ByteArray := prog_8_method_11_code
def yX2_mostFollowing : MethodName := ⟨RX2, "mostFollowing", "()I"⟩
def dkwX2_mostFollowing_1 : List UInt8 := [184, 0, 103, 60, 132, 2, 1, 167, 255, 230, 27, 172]
abbrev dktX2_mostFollowing_1 : List UInt8 := dkwX2_mostFollowing_1 ++ []
def dkwX2_mostFollowing_0 : List UInt8 := [3, 60, 3, 61, 28, 42, 180, 0, 63, 162, 0, 24, 27, 42, 42, 180, 0, 9, 28, 46, 182, 0, 83]
abbrev dktX2_mostFollowing_0 : List UInt8 := dkwX2_mostFollowing_0 ++ dktX2_mostFollowing_1
theorem dksX2_mostFollowing_0 : cX2_mostFollowing.data.toList.drop 0 = dktX2_mostFollowing_0 := by decide +kernel
theorem dksX2_mostFollowing_1 : cX2_mostFollowing.data.toList.drop 23 = dktX2_mostFollowing_1 := dk_seg dksX2_mostFollowing_0 23 rfl rfl
theorem dX2_mostFollowing_0 : decode cX2_mostFollowing 0 = .ok (.iconst 0, 1) := dk_3 (dk_at dksX2_mostFollowing_0 0 rfl rfl)
theorem dX2_mostFollowing_1 : decode cX2_mostFollowing 1 = .ok (.istore_n 1, 1) := dk_60 (dk_at dksX2_mostFollowing_0 1 rfl rfl)
theorem dX2_mostFollowing_2 : decode cX2_mostFollowing 2 = .ok (.iconst 0, 1) := dk_3 (dk_at dksX2_mostFollowing_0 2 rfl rfl)
theorem dX2_mostFollowing_3 : decode cX2_mostFollowing 3 = .ok (.istore_n 2, 1) := dk_61 (dk_at dksX2_mostFollowing_0 3 rfl rfl)
theorem dX2_mostFollowing_4 : decode cX2_mostFollowing 4 = .ok (.iload_n 2, 1) := dk_28 (dk_at dksX2_mostFollowing_0 4 rfl rfl)
theorem dX2_mostFollowing_5 : decode cX2_mostFollowing 5 = .ok (.aload_n 0, 1) := dk_42 (dk_at dksX2_mostFollowing_0 5 rfl rfl)
theorem dX2_mostFollowing_6 : decode cX2_mostFollowing 6 = .ok (.getfield 63, 3) := dk_180 0 63 (dk_at dksX2_mostFollowing_0 6 rfl rfl)
theorem dX2_mostFollowing_9 : decode cX2_mostFollowing 9 = .ok (.if_icmp .ge 24, 3) := dk_162 0 24 (dk_at dksX2_mostFollowing_0 9 rfl rfl)
theorem dX2_mostFollowing_12 : decode cX2_mostFollowing 12 = .ok (.iload_n 1, 1) := dk_27 (dk_at dksX2_mostFollowing_0 12 rfl rfl)
theorem dX2_mostFollowing_13 : decode cX2_mostFollowing 13 = .ok (.aload_n 0, 1) := dk_42 (dk_at dksX2_mostFollowing_0 13 rfl rfl)
theorem dX2_mostFollowing_14 : decode cX2_mostFollowing 14 = .ok (.aload_n 0, 1) := dk_42 (dk_at dksX2_mostFollowing_0 14 rfl rfl)
theorem dX2_mostFollowing_15 : decode cX2_mostFollowing 15 = .ok (.getfield 9, 3) := dk_180 0 9 (dk_at dksX2_mostFollowing_0 15 rfl rfl)
theorem dX2_mostFollowing_18 : decode cX2_mostFollowing 18 = .ok (.iload_n 2, 1) := dk_28 (dk_at dksX2_mostFollowing_0 18 rfl rfl)
theorem dX2_mostFollowing_19 : decode cX2_mostFollowing 19 = .ok (.iaload, 1) := dk_46 (dk_at dksX2_mostFollowing_0 19 rfl rfl)
theorem dX2_mostFollowing_20 : decode cX2_mostFollowing 20 = .ok (.invokevirtual 83, 3) := dk_182 0 83 (dk_at dksX2_mostFollowing_0 20 rfl rfl)
theorem dX2_mostFollowing_23 : decode cX2_mostFollowing 23 = .ok (.invokestatic 103, 3) := dk_184 0 103 (dk_at dksX2_mostFollowing_1 0 rfl rfl)
theorem dX2_mostFollowing_26 : decode cX2_mostFollowing 26 = .ok (.istore_n 1, 1) := dk_60 (dk_at dksX2_mostFollowing_1 3 rfl rfl)
theorem dX2_mostFollowing_27 : decode cX2_mostFollowing 27 = .ok (.iinc 2 1, 3) := dk_132 2 1 (dk_at dksX2_mostFollowing_1 4 rfl rfl)
theorem dX2_mostFollowing_30 : decode cX2_mostFollowing 30 = .ok (.goto (-26), 3) := dk_167 255 230 (dk_at dksX2_mostFollowing_1 7 rfl rfl)
theorem dX2_mostFollowing_33 : decode cX2_mostFollowing 33 = .ok (.iload_n 1, 1) := dk_27 (dk_at dksX2_mostFollowing_1 10 rfl rfl)
theorem dX2_mostFollowing_34 : decode cX2_mostFollowing 34 = .ok (.ireturn, 1) := dk_172 (dk_at dksX2_mostFollowing_1 11 rfl rfl)
theorem q112 : (Jvm.Cond.initialized "MirrorDoors$Ray") ∈ lw_all := lw_g (lw_at lw_m1 2 rfl) rfl
theorem q157 : (Jvm.Cond.instantiable "MirrorDoors$Ray" (12 : Nat)) ∈ lw_all := lw_g (lw_at lw_m1 47 rfl) rfl
theorem q159 : (Jvm.Cond.instanceMethod ({ cls := "MirrorDoors$Ray", name := "<init>", desc := "()V" } : Jvm.MethodName)) ∈ lw_all := lw_g (lw_at lw_m1 49 rfl) rfl
theorem q160 : (Jvm.Cond.code ({ cls := "MirrorDoors$Ray", name := "<init>", desc := "()V" } : Jvm.MethodName) prog_8_method_1_code (1 : Nat) (Option.none : Option Jvm.ClassFile.FieldType)) ∈ lw_all := lw_g (lw_at lw_m1 50 rfl) rfl
theorem q161 : (Jvm.Cond.methodLink "MirrorDoors$Ray" (3 : Nat) ({ cls := "java/lang/Object", name := "<init>", desc := "()V" } : Jvm.MethodName)) ∈ lw_all := lw_g (lw_at lw_m1 51 rfl) rfl
theorem q162 : (Jvm.Cond.fieldLink "MirrorDoors$Ray" (36 : Nat) "MirrorDoors$Ray" "world" "LMirrorDoors$World;") ∈ lw_all := lw_g (lw_at lw_m1 52 rfl) rfl
theorem q163 : (Jvm.Cond.fieldLink "MirrorDoors$Ray" (9 : Nat) "MirrorDoors$Ray" "beams" "[I") ∈ lw_all := lw_g (lw_at lw_m1 53 rfl) rfl
theorem q165 : (Jvm.Cond.fieldLink "MirrorDoors$Ray" (15 : Nat) "MirrorDoors$Ray" "steps" "[I") ∈ lw_all := lw_g (lw_at lw_m1 55 rfl) rfl
theorem q166 : (Jvm.Cond.fieldLink "MirrorDoors$Ray" (18 : Nat) "MirrorDoors$Ray" "numbers" "[I") ∈ lw_all := lw_g (lw_at lw_m1 56 rfl) rfl
theorem q167 : (Jvm.Cond.fieldLink "MirrorDoors$Ray" (63 : Nat) "MirrorDoors$Ray" "many" "I") ∈ lw_all := lw_g (lw_at lw_m1 57 rfl) rfl
theorem q169 : (Jvm.Cond.fieldLink "MirrorDoors$Ray" (77 : Nat) "MirrorDoors$Ray" "exits" "I") ∈ lw_all := lw_g (lw_at lw_m1 59 rfl) rfl
theorem q171 : (Jvm.Cond.fieldLink "MirrorDoors$Ray" (21 : Nat) "MirrorDoors$Ray" "following" "[I") ∈ lw_all := lw_g (lw_at lw_m1 61 rfl) rfl
theorem q172 : (Jvm.Cond.fieldLink "MirrorDoors$Ray" (50 : Nat) "MirrorDoors$Ray" "follows" "I") ∈ lw_all := lw_g (lw_at lw_m1 62 rfl) rfl
theorem q173 : (Jvm.Cond.fieldLink "MirrorDoors$Ray" (46 : Nat) "MirrorDoors$Ray" "leaves" "I") ∈ lw_all := lw_g (lw_at lw_m1 63 rfl) rfl
theorem q174 : (Jvm.Cond.fieldLink "MirrorDoors$Ray" (24 : Nat) "MirrorDoors$Ray" "seen" "[I") ∈ lw_all := lw_g (lw_at lw_m1 64 rfl) rfl
theorem q175 : (Jvm.Cond.fieldLink "MirrorDoors$Ray" (27 : Nat) "MirrorDoors$Ray" "queue" "[I") ∈ lw_all := lw_g (lw_at lw_m1 65 rfl) rfl
theorem q176 : (Jvm.Cond.fieldLink "MirrorDoors$Ray" (96 : Nat) "MirrorDoors$Ray" "walks" "I") ∈ lw_all := lw_g (lw_at lw_m1 66 rfl) rfl
theorem q177 : (Jvm.Cond.lays "MirrorDoors$Ray" "MirrorDoors$Ray" "world" "LMirrorDoors$World;") ∈ lw_all := lw_g (lw_at lw_m1 67 rfl) rfl
theorem q178 : (Jvm.Cond.soleField "MirrorDoors$Ray" "world") ∈ lw_all := lw_g (lw_at lw_m1 68 rfl) rfl
theorem q179 : (Jvm.Cond.laysFinal "MirrorDoors$Ray" "MirrorDoors$Ray" "beams" "[I") ∈ lw_all := lw_g (lw_at lw_m1 69 rfl) rfl
theorem q180 : (Jvm.Cond.soleField "MirrorDoors$Ray" "beams") ∈ lw_all := lw_g (lw_at lw_m1 70 rfl) rfl
theorem q181 : (Jvm.Cond.laysFinal "MirrorDoors$Ray" "MirrorDoors$Ray" "steps" "[I") ∈ lw_all := lw_g (lw_at lw_m1 71 rfl) rfl
theorem q182 : (Jvm.Cond.soleField "MirrorDoors$Ray" "steps") ∈ lw_all := lw_g (lw_at lw_m1 72 rfl) rfl
theorem q183 : (Jvm.Cond.laysFinal "MirrorDoors$Ray" "MirrorDoors$Ray" "numbers" "[I") ∈ lw_all := lw_g (lw_at lw_m1 73 rfl) rfl
theorem q184 : (Jvm.Cond.soleField "MirrorDoors$Ray" "numbers") ∈ lw_all := lw_g (lw_at lw_m1 74 rfl) rfl
theorem q185 : (Jvm.Cond.lays "MirrorDoors$Ray" "MirrorDoors$Ray" "many" "I") ∈ lw_all := lw_g (lw_at lw_m1 75 rfl) rfl
theorem q186 : (Jvm.Cond.soleField "MirrorDoors$Ray" "many") ∈ lw_all := lw_g (lw_at lw_m1 76 rfl) rfl
theorem q187 : (Jvm.Cond.lays "MirrorDoors$Ray" "MirrorDoors$Ray" "exits" "I") ∈ lw_all := lw_g (lw_at lw_m1 77 rfl) rfl
theorem q188 : (Jvm.Cond.soleField "MirrorDoors$Ray" "exits") ∈ lw_all := lw_g (lw_at lw_m1 78 rfl) rfl
theorem q189 : (Jvm.Cond.laysFinal "MirrorDoors$Ray" "MirrorDoors$Ray" "following" "[I") ∈ lw_all := lw_g (lw_at lw_m1 79 rfl) rfl
theorem q190 : (Jvm.Cond.soleField "MirrorDoors$Ray" "following") ∈ lw_all := lw_g (lw_at lw_m1 80 rfl) rfl
theorem q191 : (Jvm.Cond.lays "MirrorDoors$Ray" "MirrorDoors$Ray" "follows" "I") ∈ lw_all := lw_g (lw_at lw_m1 81 rfl) rfl
theorem q192 : (Jvm.Cond.soleField "MirrorDoors$Ray" "follows") ∈ lw_all := lw_g (lw_at lw_m1 82 rfl) rfl
theorem q193 : (Jvm.Cond.lays "MirrorDoors$Ray" "MirrorDoors$Ray" "leaves" "I") ∈ lw_all := lw_g (lw_at lw_m1 83 rfl) rfl
theorem q194 : (Jvm.Cond.soleField "MirrorDoors$Ray" "leaves") ∈ lw_all := lw_g (lw_at lw_m1 84 rfl) rfl
theorem q195 : (Jvm.Cond.laysFinal "MirrorDoors$Ray" "MirrorDoors$Ray" "seen" "[I") ∈ lw_all := lw_g (lw_at lw_m1 85 rfl) rfl
theorem q196 : (Jvm.Cond.soleField "MirrorDoors$Ray" "seen") ∈ lw_all := lw_g (lw_at lw_m1 86 rfl) rfl
theorem q197 : (Jvm.Cond.laysFinal "MirrorDoors$Ray" "MirrorDoors$Ray" "queue" "[I") ∈ lw_all := lw_g (lw_at lw_m1 87 rfl) rfl
theorem q198 : (Jvm.Cond.soleField "MirrorDoors$Ray" "queue") ∈ lw_all := lw_g (lw_at lw_m1 88 rfl) rfl
theorem q199 : (Jvm.Cond.lays "MirrorDoors$Ray" "MirrorDoors$Ray" "walks" "I") ∈ lw_all := lw_g (lw_at lw_m1 89 rfl) rfl
theorem q200 : (Jvm.Cond.soleField "MirrorDoors$Ray" "walks") ∈ lw_all := lw_g (lw_at lw_m1 90 rfl) rfl
theorem q201 : (Jvm.Cond.superclass "MirrorDoors$Ray" "java/lang/Object") ∈ lw_all := lw_g (lw_at lw_m1 91 rfl) rfl
theorem q247 : (Jvm.Cond.fieldLinkNest "MirrorDoors$Ray" (53 : Nat) "MirrorDoors$World" "cells" "[LMirrorDoors$Cell;" "MirrorDoors") ∈ lw_tbl := lw_at lw_m1 137 rfl
theorem q251 : (Jvm.Cond.fieldLinkNest "MirrorDoors$Ray" (66 : Nat) "MirrorDoors$World" "lamp" "I" "MirrorDoors") ∈ lw_tbl := lw_at lw_m1 141 rfl
theorem q380 : (Jvm.Cond.instanceMethod ({ cls := "MirrorDoors$Ray", name := "trace", desc := "(LMirrorDoors$World;)V" } : Jvm.MethodName)) ∈ lw_all := lw_g (lw_at lw_m2 30 rfl) rfl
theorem q381 : (Jvm.Cond.selects "MirrorDoors$Ray" ({ cls := "MirrorDoors$Ray", name := "trace", desc := "(LMirrorDoors$World;)V" } : Jvm.MethodName) ({ cls := "MirrorDoors$Ray", name := "trace", desc := "(LMirrorDoors$World;)V" } : Jvm.MethodName)) ∈ lw_all := lw_g (lw_at lw_m2 31 rfl) rfl
theorem q382 : (Jvm.Cond.code ({ cls := "MirrorDoors$Ray", name := "trace", desc := "(LMirrorDoors$World;)V" } : Jvm.MethodName) prog_8_method_6_code (5 : Nat) (Option.none : Option Jvm.ClassFile.FieldType)) ∈ lw_all := lw_g (lw_at lw_m2 32 rfl) rfl
theorem q383 : (Jvm.Cond.methodLink "MirrorDoors$Ray" (69 : Nat) ({ cls := "MirrorDoors$World", name := "lampDirection", desc := "()I" } : Jvm.MethodName)) ∈ lw_all := lw_g (lw_at lw_m2 33 rfl) rfl
theorem q405 : (Jvm.Cond.methodLink "MirrorDoors$Ray" (73 : Nat) ({ cls := "MirrorDoors$Ray", name := "goes", desc := "(II)V" } : Jvm.MethodName)) ∈ lw_all := lw_g (lw_at lw_m2 55 rfl) rfl
theorem q406 : (Jvm.Cond.instanceMethod ({ cls := "MirrorDoors$Ray", name := "goes", desc := "(II)V" } : Jvm.MethodName)) ∈ lw_all := lw_g (lw_at lw_m2 56 rfl) rfl
theorem q407 : (Jvm.Cond.selects "MirrorDoors$Ray" ({ cls := "MirrorDoors$Ray", name := "goes", desc := "(II)V" } : Jvm.MethodName) ({ cls := "MirrorDoors$Ray", name := "goes", desc := "(II)V" } : Jvm.MethodName)) ∈ lw_all := lw_g (lw_at lw_m2 57 rfl) rfl
theorem q408 : (Jvm.Cond.code ({ cls := "MirrorDoors$Ray", name := "goes", desc := "(II)V" } : Jvm.MethodName) prog_8_method_2_code (5 : Nat) (Option.none : Option Jvm.ClassFile.FieldType)) ∈ lw_all := lw_g (lw_at lw_m2 58 rfl) rfl
theorem q409 : (Jvm.Cond.fieldLinkNest "MirrorDoors$Ray" (30 : Nat) "MirrorDoors" "DX" "[I" "MirrorDoors") ∈ lw_tbl := lw_at lw_m2 59 rfl
theorem q411 : (Jvm.Cond.fieldLinkNest "MirrorDoors$Ray" (33 : Nat) "MirrorDoors" "DY" "[I" "MirrorDoors") ∈ lw_tbl := lw_at lw_m2 61 rfl
theorem q413 : (Jvm.Cond.methodLink "MirrorDoors$Ray" (40 : Nat) ({ cls := "MirrorDoors$World", name := "isOn", desc := "(II)Z" } : Jvm.MethodName)) ∈ lw_all := lw_g (lw_at lw_m2 63 rfl) rfl
theorem q420 : (Jvm.Cond.methodLink "MirrorDoors$Ray" (80 : Nat) ({ cls := "MirrorDoors$Ray", name := "adds", desc := "(II)V" } : Jvm.MethodName)) ∈ lw_all := lw_g (lw_at lw_m2 70 rfl) rfl
theorem q421 : (Jvm.Cond.privateMethod ({ cls := "MirrorDoors$Ray", name := "adds", desc := "(II)V" } : Jvm.MethodName)) ∈ lw_tbl := lw_at lw_m2 71 rfl
theorem q422 : (Jvm.Cond.instanceMethod ({ cls := "MirrorDoors$Ray", name := "adds", desc := "(II)V" } : Jvm.MethodName)) ∈ lw_all := lw_g (lw_at lw_m2 72 rfl) rfl
theorem q423 : (Jvm.Cond.code ({ cls := "MirrorDoors$Ray", name := "adds", desc := "(II)V" } : Jvm.MethodName) prog_8_method_4_code (3 : Nat) (Option.none : Option Jvm.ClassFile.FieldType)) ∈ lw_all := lw_g (lw_at lw_m2 73 rfl) rfl
theorem q424 : (Jvm.Cond.methodLink "MirrorDoors$Ray" (83 : Nat) ({ cls := "MirrorDoors$Ray", name := "follow", desc := "(I)I" } : Jvm.MethodName)) ∈ lw_all := lw_g (lw_at lw_m2 74 rfl) rfl
theorem q425 : (Jvm.Cond.instanceMethod ({ cls := "MirrorDoors$Ray", name := "follow", desc := "(I)I" } : Jvm.MethodName)) ∈ lw_all := lw_g (lw_at lw_m2 75 rfl) rfl
theorem q426 : (Jvm.Cond.selects "MirrorDoors$Ray" ({ cls := "MirrorDoors$Ray", name := "follow", desc := "(I)I" } : Jvm.MethodName) ({ cls := "MirrorDoors$Ray", name := "follow", desc := "(I)I" } : Jvm.MethodName)) ∈ lw_all := lw_g (lw_at lw_m2 76 rfl) rfl
theorem q427 : (Jvm.Cond.code ({ cls := "MirrorDoors$Ray", name := "follow", desc := "(I)I" } : Jvm.MethodName) prog_8_method_3_code (2 : Nat) (Option.some Jvm.ClassFile.FieldType.int)) ∈ lw_all := lw_g (lw_at lw_m2 77 rfl) rfl
theorem q428 : (Jvm.Cond.methodLink "MirrorDoors$Ray" (57 : Nat) ({ cls := "MirrorDoors$Cell", name := "passes", desc := "(ILMirrorDoors$Sink;)V" } : Jvm.MethodName)) ∈ lw_all := lw_g (lw_at lw_m2 78 rfl) rfl
theorem q441 : (Jvm.Cond.castable "MirrorDoors$Ray" "MirrorDoors$Sink") ∈ lw_tbl := lw_at lw_m2 91 rfl
theorem q442 : (Jvm.Cond.selects "MirrorDoors$Ray" ({ cls := "MirrorDoors$Sink", name := "goes", desc := "(II)V" } : Jvm.MethodName) ({ cls := "MirrorDoors$Ray", name := "goes", desc := "(II)V" } : Jvm.MethodName)) ∈ lw_all := lw_g (lw_at lw_m2 92 rfl) rfl
theorem q443 : (Jvm.Cond.unhidden "MirrorDoors$Ray" "goes" "(II)V") ∈ lw_tbl := lw_at lw_m2 93 rfl
theorem q444 : (Jvm.Cond.publicMethod ({ cls := "MirrorDoors$Ray", name := "goes", desc := "(II)V" } : Jvm.MethodName)) ∈ lw_tbl := lw_at lw_m2 94 rfl
theorem q465 : (Jvm.Cond.instanceMethod ({ cls := "MirrorDoors$Ray", name := "lights", desc := "(I)I" } : Jvm.MethodName)) ∈ lw_all := lw_g (lw_at lw_m2 115 rfl) rfl
theorem q466 : (Jvm.Cond.selects "MirrorDoors$Ray" ({ cls := "MirrorDoors$Ray", name := "lights", desc := "(I)I" } : Jvm.MethodName) ({ cls := "MirrorDoors$Ray", name := "lights", desc := "(I)I" } : Jvm.MethodName)) ∈ lw_all := lw_g (lw_at lw_m2 116 rfl) rfl
theorem q467 : (Jvm.Cond.code ({ cls := "MirrorDoors$Ray", name := "lights", desc := "(I)I" } : Jvm.MethodName) prog_8_method_7_code (4 : Nat) (Option.some Jvm.ClassFile.FieldType.int)) ∈ lw_all := lw_g (lw_at lw_m2 117 rfl) rfl
theorem q1210 : (Jvm.Cond.selects "MirrorDoors$Ray" ({ cls := "java/lang/Object", name := "getClass", desc := "()Ljava/lang/Class;" } : Jvm.MethodName) ({ cls := "java/lang/Object", name := "getClass", desc := "()Ljava/lang/Class;" } : Jvm.MethodName)) ∈ lw_all := lw_g (lw_at lw_m5 140 rfl) rfl
theorem q1362 : (Jvm.Cond.instanceMethod ({ cls := "MirrorDoors$Ray", name := "gap", desc := "()I" } : Jvm.MethodName)) ∈ lw_all := lw_g (lw_at lw_m6 52 rfl) rfl
theorem q1363 : (Jvm.Cond.selects "MirrorDoors$Ray" ({ cls := "MirrorDoors$Ray", name := "gap", desc := "()I" } : Jvm.MethodName) ({ cls := "MirrorDoors$Ray", name := "gap", desc := "()I" } : Jvm.MethodName)) ∈ lw_all := lw_g (lw_at lw_m6 53 rfl) rfl
theorem q1364 : (Jvm.Cond.code ({ cls := "MirrorDoors$Ray", name := "gap", desc := "()I" } : Jvm.MethodName) prog_8_method_13_code (6 : Nat) (Option.some Jvm.ClassFile.FieldType.int)) ∈ lw_all := lw_g (lw_at lw_m6 54 rfl) rfl
theorem q1365 : (Jvm.Cond.methodLink "MirrorDoors$Ray" (87 : Nat) ({ cls := "MirrorDoors$Ray", name := "numberOf", desc := "(I)I" } : Jvm.MethodName)) ∈ lw_all := lw_g (lw_at lw_m6 55 rfl) rfl
theorem q1366 : (Jvm.Cond.instanceMethod ({ cls := "MirrorDoors$Ray", name := "numberOf", desc := "(I)I" } : Jvm.MethodName)) ∈ lw_all := lw_g (lw_at lw_m6 56 rfl) rfl
theorem q1367 : (Jvm.Cond.selects "MirrorDoors$Ray" ({ cls := "MirrorDoors$Ray", name := "numberOf", desc := "(I)I" } : Jvm.MethodName) ({ cls := "MirrorDoors$Ray", name := "numberOf", desc := "(I)I" } : Jvm.MethodName)) ∈ lw_all := lw_g (lw_at lw_m6 57 rfl) rfl
theorem q1368 : (Jvm.Cond.code ({ cls := "MirrorDoors$Ray", name := "numberOf", desc := "(I)I" } : Jvm.MethodName) prog_8_method_5_code (2 : Nat) (Option.some Jvm.ClassFile.FieldType.int)) ∈ lw_all := lw_g (lw_at lw_m6 58 rfl) rfl
theorem q1369 : (Jvm.Cond.methodLink "MirrorDoors$Ray" (103 : Nat) ({ cls := "java/lang/Math", name := "max", desc := "(II)I" } : Jvm.MethodName)) ∈ lw_all := lw_g (lw_at lw_m6 59 rfl) rfl
theorem q1389 : (Jvm.Cond.instanceMethod ({ cls := "MirrorDoors$Ray", name := "stepsTo", desc := "(I)I" } : Jvm.MethodName)) ∈ lw_all := lw_g (lw_at lw_m6 79 rfl) rfl
theorem q1390 : (Jvm.Cond.selects "MirrorDoors$Ray" ({ cls := "MirrorDoors$Ray", name := "stepsTo", desc := "(I)I" } : Jvm.MethodName) ({ cls := "MirrorDoors$Ray", name := "stepsTo", desc := "(I)I" } : Jvm.MethodName)) ∈ lw_all := lw_g (lw_at lw_m6 80 rfl) rfl
theorem q1391 : (Jvm.Cond.code ({ cls := "MirrorDoors$Ray", name := "stepsTo", desc := "(I)I" } : Jvm.MethodName) prog_8_method_8_code (5 : Nat) (Option.some Jvm.ClassFile.FieldType.int)) ∈ lw_all := lw_g (lw_at lw_m6 81 rfl) rfl
theorem q1392 : (Jvm.Cond.methodLink "MirrorDoors$Ray" (90 : Nat) ({ cls := "java/lang/Math", name := "min", desc := "(II)I" } : Jvm.MethodName)) ∈ lw_all := lw_g (lw_at lw_m6 82 rfl) rfl
theorem q1529 : (Jvm.Cond.selects "MirrorDoors$Ray" ({ cls := "java/lang/Object", name := "equals", desc := "(Ljava/lang/Object;)Z" } : Jvm.MethodName) ({ cls := "java/lang/Object", name := "equals", desc := "(Ljava/lang/Object;)Z" } : Jvm.MethodName)) ∈ lw_all := lw_g (lw_at lw_m6 219 rfl) rfl
theorem q1699 : (Jvm.Cond.instanceMethod ({ cls := "MirrorDoors$Ray", name := "inRings", desc := "()I" } : Jvm.MethodName)) ∈ lw_all := lw_g (lw_at lw_m7 149 rfl) rfl
theorem q1700 : (Jvm.Cond.selects "MirrorDoors$Ray" ({ cls := "MirrorDoors$Ray", name := "inRings", desc := "()I" } : Jvm.MethodName) ({ cls := "MirrorDoors$Ray", name := "inRings", desc := "()I" } : Jvm.MethodName)) ∈ lw_all := lw_g (lw_at lw_m7 150 rfl) rfl
theorem q1701 : (Jvm.Cond.code ({ cls := "MirrorDoors$Ray", name := "inRings", desc := "()I" } : Jvm.MethodName) prog_8_method_10_code (3 : Nat) (Option.some Jvm.ClassFile.FieldType.int)) ∈ lw_all := lw_g (lw_at lw_m7 151 rfl) rfl
theorem q1702 : (Jvm.Cond.methodLink "MirrorDoors$Ray" (99 : Nat) ({ cls := "MirrorDoors$Ray", name := "isInRing", desc := "(I)Z" } : Jvm.MethodName)) ∈ lw_all := lw_g (lw_at lw_m7 152 rfl) rfl
theorem q1703 : (Jvm.Cond.instanceMethod ({ cls := "MirrorDoors$Ray", name := "isInRing", desc := "(I)Z" } : Jvm.MethodName)) ∈ lw_all := lw_g (lw_at lw_m7 153 rfl) rfl
theorem q1704 : (Jvm.Cond.selects "MirrorDoors$Ray" ({ cls := "MirrorDoors$Ray", name := "isInRing", desc := "(I)Z" } : Jvm.MethodName) ({ cls := "MirrorDoors$Ray", name := "isInRing", desc := "(I)Z" } : Jvm.MethodName)) ∈ lw_all := lw_g (lw_at lw_m7 154 rfl) rfl
theorem q1705 : (Jvm.Cond.code ({ cls := "MirrorDoors$Ray", name := "isInRing", desc := "(I)Z" } : Jvm.MethodName) prog_8_method_9_code (7 : Nat) (Option.some Jvm.ClassFile.FieldType.boolean)) ∈ lw_all := lw_g (lw_at lw_m7 155 rfl) rfl
theorem q1711 : (Jvm.Cond.instanceMethod ({ cls := "MirrorDoors$Ray", name := "stopped", desc := "()I" } : Jvm.MethodName)) ∈ lw_all := lw_g (lw_at lw_m7 161 rfl) rfl
theorem q1712 : (Jvm.Cond.selects "MirrorDoors$Ray" ({ cls := "MirrorDoors$Ray", name := "stopped", desc := "()I" } : Jvm.MethodName) ({ cls := "MirrorDoors$Ray", name := "stopped", desc := "()I" } : Jvm.MethodName)) ∈ lw_all := lw_g (lw_at lw_m7 162 rfl) rfl
theorem q1713 : (Jvm.Cond.code ({ cls := "MirrorDoors$Ray", name := "stopped", desc := "()I" } : Jvm.MethodName) prog_8_method_12_code (4 : Nat) (Option.some Jvm.ClassFile.FieldType.int)) ∈ lw_all := lw_g (lw_at lw_m7 163 rfl) rfl
theorem q1714 : (Jvm.Cond.classLink "MirrorDoors$Ray" (106 : Nat) "MirrorDoors$Gate") ∈ lw_all := lw_g (lw_at lw_m7 164 rfl) rfl
theorem q1715 : (Jvm.Cond.methodLink "MirrorDoors$Ray" (108 : Nat) ({ cls := "MirrorDoors$Cell", name := "form", desc := "()I" } : Jvm.MethodName)) ∈ lw_all := lw_g (lw_at lw_m7 165 rfl) rfl
theorem q1717 : (Jvm.Cond.instanceMethod ({ cls := "MirrorDoors$Ray", name := "mostFollowing", desc := "()I" } : Jvm.MethodName)) ∈ lw_all := lw_g (lw_at lw_m7 167 rfl) rfl
theorem q1718 : (Jvm.Cond.selects "MirrorDoors$Ray" ({ cls := "MirrorDoors$Ray", name := "mostFollowing", desc := "()I" } : Jvm.MethodName) ({ cls := "MirrorDoors$Ray", name := "mostFollowing", desc := "()I" } : Jvm.MethodName)) ∈ lw_all := lw_g (lw_at lw_m7 168 rfl) rfl
theorem q1719 : (Jvm.Cond.code ({ cls := "MirrorDoors$Ray", name := "mostFollowing", desc := "()I" } : Jvm.MethodName) prog_8_method_11_code (3 : Nat) (Option.some Jvm.ClassFile.FieldType.int)) ∈ lw_all := lw_g (lw_at lw_m7 169 rfl) rfl
theorem q2382 : (Jvm.Cond.castable "MirrorDoors$Ray" "java/lang/Object") ∈ lw_tbl := lw_at lw_m10 112 rfl
theorem in_X2 : ∀ w ∈ wsX20, w ∈ lw_all := lw_in wsX20 [177, 179, 181, 183, 185, 187, 189, 191, 193, 195, 197, 199] (by decide +kernel) (by decide +kernel)

/-! MirrorDoors$World -/
set_option maxRecDepth 100000
def RX3 : String := "MirrorDoors$World"
def TX3 : u_T := fun k => match k with
  | 0 => ("MirrorDoors$World", "ray", "LMirrorDoors$Ray;", true)
  | 1 => ("MirrorDoors$World", "wide", "I", true)
  | 2 => ("MirrorDoors$World", "high", "I", true)
  | 3 => ("MirrorDoors$World", "cells", "[LMirrorDoors$Cell;", true)
  | 4 => ("MirrorDoors$World", "lamp", "I", false)
  | 5 => ("MirrorDoors$World", "lock", "I", false)
  | 6 => ("MirrorDoors$World", "limit", "I", false)
  | 7 => ("MirrorDoors$World", "moves", "I", false)
  | _ => ("MirrorDoors$World", "latest", "I", false)
def tyX3 : Nat → FieldType := fun k => match k with
  | 0 => .object "MirrorDoors$Ray"
  | 1 => .int
  | 2 => .int
  | 3 => .array (.object "MirrorDoors$Cell")
  | 4 => .int
  | 5 => .int
  | 6 => .int
  | 7 => .int
  | _ => .int
abbrev wsX30 : List Cond := u_ws RX3 TX3 9
theorem nmX3 : ∀ a, a < 9 → ∀ b, b < 9 → a ≠ b → (TX3 a).2.1 ≠ (TX3 b).2.1 := by decide +kernel
theorem tyX3_ok : ∀ k, k < 9 → parseFieldDescriptor (TX3 k).2.2.1 = some (tyX3 k) := by decide +kernel
abbrev cX3_init : ByteArray := prog_13_method_1_code
def yX3_init : MethodName := ⟨RX3, "<init>", "(LMirrorDoors$Ray;IIII)V"⟩
def dkwX3_init_2 : List UInt8 := [180, 0, 9, 21, 4, 187, 0, 18, 89, 21, 4, 21, 5, 183, 0, 20, 83, 177]
abbrev dktX3_init_2 : List UInt8 := dkwX3_init_2 ++ []
def dkwX3_init_1 : List UInt8 := [180, 0, 9, 21, 6, 187, 0, 13, 89, 21, 6, 183, 0, 15, 83, 132, 6, 1, 167, 255, 227, 42]
abbrev dktX3_init_1 : List UInt8 := dkwX3_init_1 ++ dktX3_init_2
def dkwX3_init_0 : List UInt8 := [42, 43, 28, 29, 21, 4, 183, 0, 3, 3, 54, 6, 21, 6, 42, 180, 0, 9, 190, 162, 0, 25, 42]
abbrev dktX3_init_0 : List UInt8 := dkwX3_init_0 ++ dktX3_init_1
theorem dksX3_init_0 : cX3_init.data.toList.drop 0 = dktX3_init_0 := by decide +kernel
theorem dksX3_init_1 : cX3_init.data.toList.drop 23 = dktX3_init_1 := dk_seg dksX3_init_0 23 rfl rfl
theorem dksX3_init_2 : cX3_init.data.toList.drop 45 = dktX3_init_2 := dk_seg dksX3_init_1 22 rfl rfl
theorem dX3_init_0 : decode cX3_init 0 = .ok (.aload_n 0, 1) := dk_42 (dk_at dksX3_init_0 0 rfl rfl)
theorem dX3_init_1 : decode cX3_init 1 = .ok (.aload_n 1, 1) := dk_43 (dk_at dksX3_init_0 1 rfl rfl)
theorem dX3_init_2 : decode cX3_init 2 = .ok (.iload_n 2, 1) := dk_28 (dk_at dksX3_init_0 2 rfl rfl)
theorem dX3_init_3 : decode cX3_init 3 = .ok (.iload_n 3, 1) := dk_29 (dk_at dksX3_init_0 3 rfl rfl)
theorem dX3_init_4 : decode cX3_init 4 = .ok (.iload 4, 2) := dk_21 4 (dk_at dksX3_init_0 4 rfl rfl)
theorem dX3_init_6 : decode cX3_init 6 = .ok (.invokespecial 3, 3) := dk_183 0 3 (dk_at dksX3_init_0 6 rfl rfl)
theorem dX3_init_9 : decode cX3_init 9 = .ok (.iconst 0, 1) := dk_3 (dk_at dksX3_init_0 9 rfl rfl)
theorem dX3_init_10 : decode cX3_init 10 = .ok (.istore 6, 2) := dk_54 6 (dk_at dksX3_init_0 10 rfl rfl)
theorem dX3_init_12 : decode cX3_init 12 = .ok (.iload 6, 2) := dk_21 6 (dk_at dksX3_init_0 12 rfl rfl)
theorem dX3_init_14 : decode cX3_init 14 = .ok (.aload_n 0, 1) := dk_42 (dk_at dksX3_init_0 14 rfl rfl)
theorem dX3_init_15 : decode cX3_init 15 = .ok (.getfield 9, 3) := dk_180 0 9 (dk_at dksX3_init_0 15 rfl rfl)
theorem dX3_init_18 : decode cX3_init 18 = .ok (.arraylength, 1) := dk_190 (dk_at dksX3_init_0 18 rfl rfl)
theorem dX3_init_19 : decode cX3_init 19 = .ok (.if_icmp .ge 25, 3) := dk_162 0 25 (dk_at dksX3_init_0 19 rfl rfl)
theorem dX3_init_22 : decode cX3_init 22 = .ok (.aload_n 0, 1) := dk_42 (dk_at dksX3_init_0 22 rfl rfl)
theorem dX3_init_23 : decode cX3_init 23 = .ok (.getfield 9, 3) := dk_180 0 9 (dk_at dksX3_init_1 0 rfl rfl)
theorem dX3_init_26 : decode cX3_init 26 = .ok (.iload 6, 2) := dk_21 6 (dk_at dksX3_init_1 3 rfl rfl)
theorem dX3_init_28 : decode cX3_init 28 = .ok (.new 13, 3) := dk_187 0 13 (dk_at dksX3_init_1 5 rfl rfl)
theorem dX3_init_31 : decode cX3_init 31 = .ok (.dup, 1) := dk_89 (dk_at dksX3_init_1 8 rfl rfl)
theorem dX3_init_32 : decode cX3_init 32 = .ok (.iload 6, 2) := dk_21 6 (dk_at dksX3_init_1 9 rfl rfl)
theorem dX3_init_34 : decode cX3_init 34 = .ok (.invokespecial 15, 3) := dk_183 0 15 (dk_at dksX3_init_1 11 rfl rfl)
theorem dX3_init_37 : decode cX3_init 37 = .ok (.aastore, 1) := dk_83 (dk_at dksX3_init_1 14 rfl rfl)
theorem dX3_init_38 : decode cX3_init 38 = .ok (.iinc 6 1, 3) := dk_132 6 1 (dk_at dksX3_init_1 15 rfl rfl)
theorem dX3_init_41 : decode cX3_init 41 = .ok (.goto (-29), 3) := dk_167 255 227 (dk_at dksX3_init_1 18 rfl rfl)
theorem dX3_init_44 : decode cX3_init 44 = .ok (.aload_n 0, 1) := dk_42 (dk_at dksX3_init_1 21 rfl rfl)
theorem dX3_init_45 : decode cX3_init 45 = .ok (.getfield 9, 3) := dk_180 0 9 (dk_at dksX3_init_2 0 rfl rfl)
theorem dX3_init_48 : decode cX3_init 48 = .ok (.iload 4, 2) := dk_21 4 (dk_at dksX3_init_2 3 rfl rfl)
theorem dX3_init_50 : decode cX3_init 50 = .ok (.new 18, 3) := dk_187 0 18 (dk_at dksX3_init_2 5 rfl rfl)
theorem dX3_init_53 : decode cX3_init 53 = .ok (.dup, 1) := dk_89 (dk_at dksX3_init_2 8 rfl rfl)
theorem dX3_init_54 : decode cX3_init 54 = .ok (.iload 4, 2) := dk_21 4 (dk_at dksX3_init_2 9 rfl rfl)
theorem dX3_init_56 : decode cX3_init 56 = .ok (.iload 5, 2) := dk_21 5 (dk_at dksX3_init_2 11 rfl rfl)
theorem dX3_init_58 : decode cX3_init 58 = .ok (.invokespecial 20, 3) := dk_183 0 20 (dk_at dksX3_init_2 13 rfl rfl)
theorem dX3_init_61 : decode cX3_init 61 = .ok (.aastore, 1) := dk_83 (dk_at dksX3_init_2 16 rfl rfl)
theorem dX3_init_62 : decode cX3_init 62 = .ok (.return_, 1) := dk_177 (dk_at dksX3_init_2 17 rfl rfl)
abbrev cX3_init_2 : ByteArray := prog_13_method_2_code
def yX3_init_2 : MethodName := ⟨RX3, "<init>", "(LMirrorDoors$Ray;III)V"⟩
def dkwX3_init_2_1 : List UInt8 := [42, 28, 181, 0, 38, 42, 29, 181, 0, 41, 42, 21, 4, 181, 0, 44, 177]
abbrev dktX3_init_2_1 : List UInt8 := dkwX3_init_2_1 ++ []
def dkwX3_init_2_0 : List UInt8 := [42, 183, 0, 23, 42, 16, 100, 189, 0, 28, 181, 0, 9, 42, 16, 20, 181, 0, 30, 42, 43, 181, 0, 34]
abbrev dktX3_init_2_0 : List UInt8 := dkwX3_init_2_0 ++ dktX3_init_2_1
theorem dksX3_init_2_0 : cX3_init_2.data.toList.drop 0 = dktX3_init_2_0 := by decide +kernel
theorem dksX3_init_2_1 : cX3_init_2.data.toList.drop 24 = dktX3_init_2_1 := dk_seg dksX3_init_2_0 24 rfl rfl
theorem dX3_init_2_0 : decode cX3_init_2 0 = .ok (.aload_n 0, 1) := dk_42 (dk_at dksX3_init_2_0 0 rfl rfl)
theorem dX3_init_2_1 : decode cX3_init_2 1 = .ok (.invokespecial 23, 3) := dk_183 0 23 (dk_at dksX3_init_2_0 1 rfl rfl)
theorem dX3_init_2_4 : decode cX3_init_2 4 = .ok (.aload_n 0, 1) := dk_42 (dk_at dksX3_init_2_0 4 rfl rfl)
theorem dX3_init_2_5 : decode cX3_init_2 5 = .ok (.bipush 100, 2) := dk_16 100 (dk_at dksX3_init_2_0 5 rfl rfl)
theorem dX3_init_2_7 : decode cX3_init_2 7 = .ok (.anewarray 28, 3) := dk_189 0 28 (dk_at dksX3_init_2_0 7 rfl rfl)
theorem dX3_init_2_10 : decode cX3_init_2 10 = .ok (.putfield 9, 3) := dk_181 0 9 (dk_at dksX3_init_2_0 10 rfl rfl)
theorem dX3_init_2_13 : decode cX3_init_2 13 = .ok (.aload_n 0, 1) := dk_42 (dk_at dksX3_init_2_0 13 rfl rfl)
theorem dX3_init_2_14 : decode cX3_init_2 14 = .ok (.bipush 20, 2) := dk_16 20 (dk_at dksX3_init_2_0 14 rfl rfl)
theorem dX3_init_2_16 : decode cX3_init_2 16 = .ok (.putfield 30, 3) := dk_181 0 30 (dk_at dksX3_init_2_0 16 rfl rfl)
theorem dX3_init_2_19 : decode cX3_init_2 19 = .ok (.aload_n 0, 1) := dk_42 (dk_at dksX3_init_2_0 19 rfl rfl)
theorem dX3_init_2_20 : decode cX3_init_2 20 = .ok (.aload_n 1, 1) := dk_43 (dk_at dksX3_init_2_0 20 rfl rfl)
theorem dX3_init_2_21 : decode cX3_init_2 21 = .ok (.putfield 34, 3) := dk_181 0 34 (dk_at dksX3_init_2_0 21 rfl rfl)
theorem dX3_init_2_24 : decode cX3_init_2 24 = .ok (.aload_n 0, 1) := dk_42 (dk_at dksX3_init_2_1 0 rfl rfl)
theorem dX3_init_2_25 : decode cX3_init_2 25 = .ok (.iload_n 2, 1) := dk_28 (dk_at dksX3_init_2_1 1 rfl rfl)
theorem dX3_init_2_26 : decode cX3_init_2 26 = .ok (.putfield 38, 3) := dk_181 0 38 (dk_at dksX3_init_2_1 2 rfl rfl)
theorem dX3_init_2_29 : decode cX3_init_2 29 = .ok (.aload_n 0, 1) := dk_42 (dk_at dksX3_init_2_1 5 rfl rfl)
theorem dX3_init_2_30 : decode cX3_init_2 30 = .ok (.iload_n 3, 1) := dk_29 (dk_at dksX3_init_2_1 6 rfl rfl)
theorem dX3_init_2_31 : decode cX3_init_2 31 = .ok (.putfield 41, 3) := dk_181 0 41 (dk_at dksX3_init_2_1 7 rfl rfl)
theorem dX3_init_2_34 : decode cX3_init_2 34 = .ok (.aload_n 0, 1) := dk_42 (dk_at dksX3_init_2_1 10 rfl rfl)
theorem dX3_init_2_35 : decode cX3_init_2 35 = .ok (.iload 4, 2) := dk_21 4 (dk_at dksX3_init_2_1 11 rfl rfl)
theorem dX3_init_2_37 : decode cX3_init_2 37 = .ok (.putfield 44, 3) := dk_181 0 44 (dk_at dksX3_init_2_1 13 rfl rfl)
theorem dX3_init_2_40 : decode cX3_init_2 40 = .ok (.return_, 1) := dk_177 (dk_at dksX3_init_2_1 16 rfl rfl)
abbrev cX3_laysOpen : ByteArray := prog_13_method_16_code
def yX3_laysOpen : MethodName := ⟨RX3, "laysOpen", "()V"⟩
def dkwX3_laysOpen_2 : List UInt8 := [182, 0, 123, 154, 0, 7, 2, 167, 0, 4, 3, 181, 0, 126, 132, 3, 1, 167, 255, 207, 177]
abbrev dktX3_laysOpen_2 : List UInt8 := dkwX3_laysOpen_2 ++ []
def dkwX3_laysOpen_1 : List UInt8 := [58, 4, 25, 4, 193, 0, 76, 153, 0, 31, 25, 4, 192, 0, 76, 42, 180, 0, 34, 25, 4, 180, 0, 120]
abbrev dktX3_laysOpen_1 : List UInt8 := dkwX3_laysOpen_1 ++ dktX3_laysOpen_2
def dkwX3_laysOpen_0 : List UInt8 := [42, 182, 0, 117, 87, 42, 180, 0, 9, 76, 43, 190, 61, 3, 62, 29, 28, 162, 0, 50, 43, 29, 50]
abbrev dktX3_laysOpen_0 : List UInt8 := dkwX3_laysOpen_0 ++ dktX3_laysOpen_1
theorem dksX3_laysOpen_0 : cX3_laysOpen.data.toList.drop 0 = dktX3_laysOpen_0 := by decide +kernel
theorem dksX3_laysOpen_1 : cX3_laysOpen.data.toList.drop 23 = dktX3_laysOpen_1 := dk_seg dksX3_laysOpen_0 23 rfl rfl
theorem dksX3_laysOpen_2 : cX3_laysOpen.data.toList.drop 47 = dktX3_laysOpen_2 := dk_seg dksX3_laysOpen_1 24 rfl rfl
theorem dX3_laysOpen_0 : decode cX3_laysOpen 0 = .ok (.aload_n 0, 1) := dk_42 (dk_at dksX3_laysOpen_0 0 rfl rfl)
theorem dX3_laysOpen_1 : decode cX3_laysOpen 1 = .ok (.invokevirtual 117, 3) := dk_182 0 117 (dk_at dksX3_laysOpen_0 1 rfl rfl)
theorem dX3_laysOpen_4 : decode cX3_laysOpen 4 = .ok (.pop, 1) := dk_87 (dk_at dksX3_laysOpen_0 4 rfl rfl)
theorem dX3_laysOpen_5 : decode cX3_laysOpen 5 = .ok (.aload_n 0, 1) := dk_42 (dk_at dksX3_laysOpen_0 5 rfl rfl)
theorem dX3_laysOpen_6 : decode cX3_laysOpen 6 = .ok (.getfield 9, 3) := dk_180 0 9 (dk_at dksX3_laysOpen_0 6 rfl rfl)
theorem dX3_laysOpen_9 : decode cX3_laysOpen 9 = .ok (.astore_n 1, 1) := dk_76 (dk_at dksX3_laysOpen_0 9 rfl rfl)
theorem dX3_laysOpen_10 : decode cX3_laysOpen 10 = .ok (.aload_n 1, 1) := dk_43 (dk_at dksX3_laysOpen_0 10 rfl rfl)
theorem dX3_laysOpen_11 : decode cX3_laysOpen 11 = .ok (.arraylength, 1) := dk_190 (dk_at dksX3_laysOpen_0 11 rfl rfl)
theorem dX3_laysOpen_12 : decode cX3_laysOpen 12 = .ok (.istore_n 2, 1) := dk_61 (dk_at dksX3_laysOpen_0 12 rfl rfl)
theorem dX3_laysOpen_13 : decode cX3_laysOpen 13 = .ok (.iconst 0, 1) := dk_3 (dk_at dksX3_laysOpen_0 13 rfl rfl)
theorem dX3_laysOpen_14 : decode cX3_laysOpen 14 = .ok (.istore_n 3, 1) := dk_62 (dk_at dksX3_laysOpen_0 14 rfl rfl)
theorem dX3_laysOpen_15 : decode cX3_laysOpen 15 = .ok (.iload_n 3, 1) := dk_29 (dk_at dksX3_laysOpen_0 15 rfl rfl)
theorem dX3_laysOpen_16 : decode cX3_laysOpen 16 = .ok (.iload_n 2, 1) := dk_28 (dk_at dksX3_laysOpen_0 16 rfl rfl)
theorem dX3_laysOpen_17 : decode cX3_laysOpen 17 = .ok (.if_icmp .ge 50, 3) := dk_162 0 50 (dk_at dksX3_laysOpen_0 17 rfl rfl)
theorem dX3_laysOpen_20 : decode cX3_laysOpen 20 = .ok (.aload_n 1, 1) := dk_43 (dk_at dksX3_laysOpen_0 20 rfl rfl)
theorem dX3_laysOpen_21 : decode cX3_laysOpen 21 = .ok (.iload_n 3, 1) := dk_29 (dk_at dksX3_laysOpen_0 21 rfl rfl)
theorem dX3_laysOpen_22 : decode cX3_laysOpen 22 = .ok (.aaload, 1) := dk_50 (dk_at dksX3_laysOpen_0 22 rfl rfl)
theorem dX3_laysOpen_23 : decode cX3_laysOpen 23 = .ok (.astore 4, 2) := dk_58 4 (dk_at dksX3_laysOpen_1 0 rfl rfl)
theorem dX3_laysOpen_25 : decode cX3_laysOpen 25 = .ok (.aload 4, 2) := dk_25 4 (dk_at dksX3_laysOpen_1 2 rfl rfl)
theorem dX3_laysOpen_27 : decode cX3_laysOpen 27 = .ok (.instanceof 76, 3) := dk_193 0 76 (dk_at dksX3_laysOpen_1 4 rfl rfl)
theorem dX3_laysOpen_30 : decode cX3_laysOpen 30 = .ok (.ifCond .eq 31, 3) := dk_153 0 31 (dk_at dksX3_laysOpen_1 7 rfl rfl)
theorem dX3_laysOpen_33 : decode cX3_laysOpen 33 = .ok (.aload 4, 2) := dk_25 4 (dk_at dksX3_laysOpen_1 10 rfl rfl)
theorem dX3_laysOpen_35 : decode cX3_laysOpen 35 = .ok (.checkcast 76, 3) := dk_192 0 76 (dk_at dksX3_laysOpen_1 12 rfl rfl)
theorem dX3_laysOpen_38 : decode cX3_laysOpen 38 = .ok (.aload_n 0, 1) := dk_42 (dk_at dksX3_laysOpen_1 15 rfl rfl)
theorem dX3_laysOpen_39 : decode cX3_laysOpen 39 = .ok (.getfield 34, 3) := dk_180 0 34 (dk_at dksX3_laysOpen_1 16 rfl rfl)
theorem dX3_laysOpen_42 : decode cX3_laysOpen 42 = .ok (.aload 4, 2) := dk_25 4 (dk_at dksX3_laysOpen_1 19 rfl rfl)
theorem dX3_laysOpen_44 : decode cX3_laysOpen 44 = .ok (.getfield 120, 3) := dk_180 0 120 (dk_at dksX3_laysOpen_1 21 rfl rfl)
theorem dX3_laysOpen_47 : decode cX3_laysOpen 47 = .ok (.invokevirtual 123, 3) := dk_182 0 123 (dk_at dksX3_laysOpen_2 0 rfl rfl)
theorem dX3_laysOpen_50 : decode cX3_laysOpen 50 = .ok (.ifCond .ne 7, 3) := dk_154 0 7 (dk_at dksX3_laysOpen_2 3 rfl rfl)
theorem dX3_laysOpen_53 : decode cX3_laysOpen 53 = .ok (.iconst (-1), 1) := dk_2 (dk_at dksX3_laysOpen_2 6 rfl rfl)
theorem dX3_laysOpen_54 : decode cX3_laysOpen 54 = .ok (.goto 4, 3) := dk_167 0 4 (dk_at dksX3_laysOpen_2 7 rfl rfl)
theorem dX3_laysOpen_57 : decode cX3_laysOpen 57 = .ok (.iconst 0, 1) := dk_3 (dk_at dksX3_laysOpen_2 10 rfl rfl)
theorem dX3_laysOpen_58 : decode cX3_laysOpen 58 = .ok (.putfield 126, 3) := dk_181 0 126 (dk_at dksX3_laysOpen_2 11 rfl rfl)
theorem dX3_laysOpen_61 : decode cX3_laysOpen 61 = .ok (.iinc 3 1, 3) := dk_132 3 1 (dk_at dksX3_laysOpen_2 14 rfl rfl)
theorem dX3_laysOpen_64 : decode cX3_laysOpen 64 = .ok (.goto (-49), 3) := dk_167 255 207 (dk_at dksX3_laysOpen_2 17 rfl rfl)
theorem dX3_laysOpen_67 : decode cX3_laysOpen 67 = .ok (.return_, 1) := dk_177 (dk_at dksX3_laysOpen_2 20 rfl rfl)
abbrev cX3_ray : ByteArray := prog_13_method_15_code
def yX3_ray : MethodName := ⟨RX3, "ray", "()LMirrorDoors$Ray;"⟩
def dkwX3_ray_0 : List UInt8 := [42, 180, 0, 34, 42, 182, 0, 111, 42, 180, 0, 34, 176]
abbrev dktX3_ray_0 : List UInt8 := dkwX3_ray_0 ++ []
theorem dksX3_ray_0 : cX3_ray.data.toList.drop 0 = dktX3_ray_0 := by decide +kernel
theorem dX3_ray_0 : decode cX3_ray 0 = .ok (.aload_n 0, 1) := dk_42 (dk_at dksX3_ray_0 0 rfl rfl)
theorem dX3_ray_1 : decode cX3_ray 1 = .ok (.getfield 34, 3) := dk_180 0 34 (dk_at dksX3_ray_0 1 rfl rfl)
theorem dX3_ray_4 : decode cX3_ray 4 = .ok (.aload_n 0, 1) := dk_42 (dk_at dksX3_ray_0 4 rfl rfl)
theorem dX3_ray_5 : decode cX3_ray 5 = .ok (.invokevirtual 111, 3) := dk_182 0 111 (dk_at dksX3_ray_0 5 rfl rfl)
theorem dX3_ray_8 : decode cX3_ray 8 = .ok (.aload_n 0, 1) := dk_42 (dk_at dksX3_ray_0 8 rfl rfl)
theorem dX3_ray_9 : decode cX3_ray 9 = .ok (.getfield 34, 3) := dk_180 0 34 (dk_at dksX3_ray_0 9 rfl rfl)
theorem dX3_ray_12 : decode cX3_ray 12 = .ok (.areturn, 1) := dk_176 (dk_at dksX3_ray_0 12 rfl rfl)
abbrev cX3_lampDirection : ByteArray := prog_13_method_5_code
def yX3_lampDirection : MethodName := ⟨RX3, "lampDirection", "()I"⟩
def dkwX3_lampDirection_0 : List UInt8 := [42, 180, 0, 9, 42, 180, 0, 44, 50, 182, 0, 64, 172]
abbrev dktX3_lampDirection_0 : List UInt8 := dkwX3_lampDirection_0 ++ []
theorem dksX3_lampDirection_0 : cX3_lampDirection.data.toList.drop 0 = dktX3_lampDirection_0 := by decide +kernel
theorem dX3_lampDirection_0 : decode cX3_lampDirection 0 = .ok (.aload_n 0, 1) := dk_42 (dk_at dksX3_lampDirection_0 0 rfl rfl)
theorem dX3_lampDirection_1 : decode cX3_lampDirection 1 = .ok (.getfield 9, 3) := dk_180 0 9 (dk_at dksX3_lampDirection_0 1 rfl rfl)
theorem dX3_lampDirection_4 : decode cX3_lampDirection 4 = .ok (.aload_n 0, 1) := dk_42 (dk_at dksX3_lampDirection_0 4 rfl rfl)
theorem dX3_lampDirection_5 : decode cX3_lampDirection 5 = .ok (.getfield 44, 3) := dk_180 0 44 (dk_at dksX3_lampDirection_0 5 rfl rfl)
theorem dX3_lampDirection_8 : decode cX3_lampDirection 8 = .ok (.aaload, 1) := dk_50 (dk_at dksX3_lampDirection_0 8 rfl rfl)
theorem dX3_lampDirection_9 : decode cX3_lampDirection 9 = .ok (.invokevirtual 64, 3) := dk_182 0 64 (dk_at dksX3_lampDirection_0 9 rfl rfl)
theorem dX3_lampDirection_12 : decode cX3_lampDirection 12 = .ok (.ireturn, 1) := dk_172 (dk_at dksX3_lampDirection_0 12 rfl rfl)
abbrev cX3_isOn : ByteArray := prog_13_method_4_code
def yX3_isOn : MethodName := ⟨RX3, "isOn", "(II)Z"⟩
def dkwX3_isOn_1 : List UInt8 := [184, 0, 60, 153, 0, 7, 4, 167, 0, 4, 3, 172]
abbrev dktX3_isOn_1 : List UInt8 := dkwX3_isOn_1 ++ []
def dkwX3_isOn_0 : List UInt8 := [27, 3, 42, 180, 0, 38, 4, 100, 184, 0, 60, 153, 0, 21, 28, 3, 42, 180, 0, 41, 4, 100]
abbrev dktX3_isOn_0 : List UInt8 := dkwX3_isOn_0 ++ dktX3_isOn_1
theorem dksX3_isOn_0 : cX3_isOn.data.toList.drop 0 = dktX3_isOn_0 := by decide +kernel
theorem dksX3_isOn_1 : cX3_isOn.data.toList.drop 22 = dktX3_isOn_1 := dk_seg dksX3_isOn_0 22 rfl rfl
theorem dX3_isOn_0 : decode cX3_isOn 0 = .ok (.iload_n 1, 1) := dk_27 (dk_at dksX3_isOn_0 0 rfl rfl)
theorem dX3_isOn_1 : decode cX3_isOn 1 = .ok (.iconst 0, 1) := dk_3 (dk_at dksX3_isOn_0 1 rfl rfl)
theorem dX3_isOn_2 : decode cX3_isOn 2 = .ok (.aload_n 0, 1) := dk_42 (dk_at dksX3_isOn_0 2 rfl rfl)
theorem dX3_isOn_3 : decode cX3_isOn 3 = .ok (.getfield 38, 3) := dk_180 0 38 (dk_at dksX3_isOn_0 3 rfl rfl)
theorem dX3_isOn_6 : decode cX3_isOn 6 = .ok (.iconst 1, 1) := dk_4 (dk_at dksX3_isOn_0 6 rfl rfl)
theorem dX3_isOn_7 : decode cX3_isOn 7 = .ok (.isub, 1) := dk_100 (dk_at dksX3_isOn_0 7 rfl rfl)
theorem dX3_isOn_8 : decode cX3_isOn 8 = .ok (.invokestatic 60, 3) := dk_184 0 60 (dk_at dksX3_isOn_0 8 rfl rfl)
theorem dX3_isOn_11 : decode cX3_isOn 11 = .ok (.ifCond .eq 21, 3) := dk_153 0 21 (dk_at dksX3_isOn_0 11 rfl rfl)
theorem dX3_isOn_14 : decode cX3_isOn 14 = .ok (.iload_n 2, 1) := dk_28 (dk_at dksX3_isOn_0 14 rfl rfl)
theorem dX3_isOn_15 : decode cX3_isOn 15 = .ok (.iconst 0, 1) := dk_3 (dk_at dksX3_isOn_0 15 rfl rfl)
theorem dX3_isOn_16 : decode cX3_isOn 16 = .ok (.aload_n 0, 1) := dk_42 (dk_at dksX3_isOn_0 16 rfl rfl)
theorem dX3_isOn_17 : decode cX3_isOn 17 = .ok (.getfield 41, 3) := dk_180 0 41 (dk_at dksX3_isOn_0 17 rfl rfl)
theorem dX3_isOn_20 : decode cX3_isOn 20 = .ok (.iconst 1, 1) := dk_4 (dk_at dksX3_isOn_0 20 rfl rfl)
theorem dX3_isOn_21 : decode cX3_isOn 21 = .ok (.isub, 1) := dk_100 (dk_at dksX3_isOn_0 21 rfl rfl)
theorem dX3_isOn_22 : decode cX3_isOn 22 = .ok (.invokestatic 60, 3) := dk_184 0 60 (dk_at dksX3_isOn_1 0 rfl rfl)
theorem dX3_isOn_25 : decode cX3_isOn 25 = .ok (.ifCond .eq 7, 3) := dk_153 0 7 (dk_at dksX3_isOn_1 3 rfl rfl)
theorem dX3_isOn_28 : decode cX3_isOn 28 = .ok (.iconst 1, 1) := dk_4 (dk_at dksX3_isOn_1 6 rfl rfl)
theorem dX3_isOn_29 : decode cX3_isOn 29 = .ok (.goto 4, 3) := dk_167 0 4 (dk_at dksX3_isOn_1 7 rfl rfl)
theorem dX3_isOn_32 : decode cX3_isOn 32 = .ok (.iconst 0, 1) := dk_3 (dk_at dksX3_isOn_1 10 rfl rfl)
theorem dX3_isOn_33 : decode cX3_isOn 33 = .ok (.ireturn, 1) := dk_172 (dk_at dksX3_isOn_1 11 rfl rfl)
abbrev cX3_many : ByteArray := prog_13_method_6_code
def yX3_many : MethodName := ⟨RX3, "many", "(I)I"⟩
def dkwX3_many_2 : List UInt8 := [3, 96, 61, 132, 4, 1, 167, 255, 217, 132, 3, 1, 167, 255, 200, 28, 172]
abbrev dktX3_many_2 : List UInt8 := dkwX3_many_2 ++ []
def dkwX3_many_1 : List UInt8 := [28, 42, 180, 0, 9, 16, 10, 29, 104, 21, 4, 96, 50, 182, 0, 68, 27, 160, 0, 7, 4, 167, 0, 4]
abbrev dktX3_many_1 : List UInt8 := dkwX3_many_1 ++ dktX3_many_2
def dkwX3_many_0 : List UInt8 := [3, 61, 3, 62, 29, 42, 180, 0, 41, 162, 0, 54, 3, 54, 4, 21, 4, 42, 180, 0, 38, 162, 0, 36]
abbrev dktX3_many_0 : List UInt8 := dkwX3_many_0 ++ dktX3_many_1
theorem dksX3_many_0 : cX3_many.data.toList.drop 0 = dktX3_many_0 := by decide +kernel
theorem dksX3_many_1 : cX3_many.data.toList.drop 24 = dktX3_many_1 := dk_seg dksX3_many_0 24 rfl rfl
theorem dksX3_many_2 : cX3_many.data.toList.drop 48 = dktX3_many_2 := dk_seg dksX3_many_1 24 rfl rfl
theorem dX3_many_0 : decode cX3_many 0 = .ok (.iconst 0, 1) := dk_3 (dk_at dksX3_many_0 0 rfl rfl)
theorem dX3_many_1 : decode cX3_many 1 = .ok (.istore_n 2, 1) := dk_61 (dk_at dksX3_many_0 1 rfl rfl)
theorem dX3_many_2 : decode cX3_many 2 = .ok (.iconst 0, 1) := dk_3 (dk_at dksX3_many_0 2 rfl rfl)
theorem dX3_many_3 : decode cX3_many 3 = .ok (.istore_n 3, 1) := dk_62 (dk_at dksX3_many_0 3 rfl rfl)
theorem dX3_many_4 : decode cX3_many 4 = .ok (.iload_n 3, 1) := dk_29 (dk_at dksX3_many_0 4 rfl rfl)
theorem dX3_many_5 : decode cX3_many 5 = .ok (.aload_n 0, 1) := dk_42 (dk_at dksX3_many_0 5 rfl rfl)
theorem dX3_many_6 : decode cX3_many 6 = .ok (.getfield 41, 3) := dk_180 0 41 (dk_at dksX3_many_0 6 rfl rfl)
theorem dX3_many_9 : decode cX3_many 9 = .ok (.if_icmp .ge 54, 3) := dk_162 0 54 (dk_at dksX3_many_0 9 rfl rfl)
theorem dX3_many_12 : decode cX3_many 12 = .ok (.iconst 0, 1) := dk_3 (dk_at dksX3_many_0 12 rfl rfl)
theorem dX3_many_13 : decode cX3_many 13 = .ok (.istore 4, 2) := dk_54 4 (dk_at dksX3_many_0 13 rfl rfl)
theorem dX3_many_15 : decode cX3_many 15 = .ok (.iload 4, 2) := dk_21 4 (dk_at dksX3_many_0 15 rfl rfl)
theorem dX3_many_17 : decode cX3_many 17 = .ok (.aload_n 0, 1) := dk_42 (dk_at dksX3_many_0 17 rfl rfl)
theorem dX3_many_18 : decode cX3_many 18 = .ok (.getfield 38, 3) := dk_180 0 38 (dk_at dksX3_many_0 18 rfl rfl)
theorem dX3_many_21 : decode cX3_many 21 = .ok (.if_icmp .ge 36, 3) := dk_162 0 36 (dk_at dksX3_many_0 21 rfl rfl)
theorem dX3_many_24 : decode cX3_many 24 = .ok (.iload_n 2, 1) := dk_28 (dk_at dksX3_many_1 0 rfl rfl)
theorem dX3_many_25 : decode cX3_many 25 = .ok (.aload_n 0, 1) := dk_42 (dk_at dksX3_many_1 1 rfl rfl)
theorem dX3_many_26 : decode cX3_many 26 = .ok (.getfield 9, 3) := dk_180 0 9 (dk_at dksX3_many_1 2 rfl rfl)
theorem dX3_many_29 : decode cX3_many 29 = .ok (.bipush 10, 2) := dk_16 10 (dk_at dksX3_many_1 5 rfl rfl)
theorem dX3_many_31 : decode cX3_many 31 = .ok (.iload_n 3, 1) := dk_29 (dk_at dksX3_many_1 7 rfl rfl)
theorem dX3_many_32 : decode cX3_many 32 = .ok (.imul, 1) := dk_104 (dk_at dksX3_many_1 8 rfl rfl)
theorem dX3_many_33 : decode cX3_many 33 = .ok (.iload 4, 2) := dk_21 4 (dk_at dksX3_many_1 9 rfl rfl)
theorem dX3_many_35 : decode cX3_many 35 = .ok (.iadd, 1) := dk_96 (dk_at dksX3_many_1 11 rfl rfl)
theorem dX3_many_36 : decode cX3_many 36 = .ok (.aaload, 1) := dk_50 (dk_at dksX3_many_1 12 rfl rfl)
theorem dX3_many_37 : decode cX3_many 37 = .ok (.invokevirtual 68, 3) := dk_182 0 68 (dk_at dksX3_many_1 13 rfl rfl)
theorem dX3_many_40 : decode cX3_many 40 = .ok (.iload_n 1, 1) := dk_27 (dk_at dksX3_many_1 16 rfl rfl)
theorem dX3_many_41 : decode cX3_many 41 = .ok (.if_icmp .ne 7, 3) := dk_160 0 7 (dk_at dksX3_many_1 17 rfl rfl)
theorem dX3_many_44 : decode cX3_many 44 = .ok (.iconst 1, 1) := dk_4 (dk_at dksX3_many_1 20 rfl rfl)
theorem dX3_many_45 : decode cX3_many 45 = .ok (.goto 4, 3) := dk_167 0 4 (dk_at dksX3_many_1 21 rfl rfl)
theorem dX3_many_48 : decode cX3_many 48 = .ok (.iconst 0, 1) := dk_3 (dk_at dksX3_many_2 0 rfl rfl)
theorem dX3_many_49 : decode cX3_many 49 = .ok (.iadd, 1) := dk_96 (dk_at dksX3_many_2 1 rfl rfl)
theorem dX3_many_50 : decode cX3_many 50 = .ok (.istore_n 2, 1) := dk_61 (dk_at dksX3_many_2 2 rfl rfl)
theorem dX3_many_51 : decode cX3_many 51 = .ok (.iinc 4 1, 3) := dk_132 4 1 (dk_at dksX3_many_2 3 rfl rfl)
theorem dX3_many_54 : decode cX3_many 54 = .ok (.goto (-39), 3) := dk_167 255 217 (dk_at dksX3_many_2 6 rfl rfl)
theorem dX3_many_57 : decode cX3_many 57 = .ok (.iinc 3 1, 3) := dk_132 3 1 (dk_at dksX3_many_2 9 rfl rfl)
theorem dX3_many_60 : decode cX3_many 60 = .ok (.goto (-56), 3) := dk_167 255 200 (dk_at dksX3_many_2 12 rfl rfl)
theorem dX3_many_63 : decode cX3_many 63 = .ok (.iload_n 2, 1) := dk_28 (dk_at dksX3_many_2 15 rfl rfl)
theorem dX3_many_64 : decode cX3_many 64 = .ok (.ireturn, 1) := dk_172 (dk_at dksX3_many_2 16 rfl rfl)
abbrev cX3_whyNotTurn : ByteArray := prog_13_method_17_code
def yX3_whyNotTurn : MethodName := ⟨RX3, "whyNotTurn", "(I)I"⟩
def dkwX3_whyNotTurn_2 : List UInt8 := [16, 8, 172, 44, 180, 0, 134, 154, 0, 7, 3, 167, 0, 5, 16, 9, 172]
abbrev dktX3_whyNotTurn_2 : List UInt8 := dkwX3_whyNotTurn_2 ++ []
def dkwX3_whyNotTurn_1 : List UInt8 := [172, 42, 180, 0, 9, 27, 50, 192, 0, 74, 77, 44, 180, 0, 129, 6, 42, 182, 0, 131, 100, 160, 0, 6]
abbrev dktX3_whyNotTurn_1 : List UInt8 := dkwX3_whyNotTurn_1 ++ dktX3_whyNotTurn_2
def dkwX3_whyNotTurn_0 : List UInt8 := [42, 182, 0, 108, 153, 0, 6, 16, 6, 172, 42, 180, 0, 9, 27, 50, 193, 0, 74, 154, 0, 6, 16, 7]
abbrev dktX3_whyNotTurn_0 : List UInt8 := dkwX3_whyNotTurn_0 ++ dktX3_whyNotTurn_1
theorem dksX3_whyNotTurn_0 : cX3_whyNotTurn.data.toList.drop 0 = dktX3_whyNotTurn_0 := by decide +kernel
theorem dksX3_whyNotTurn_1 : cX3_whyNotTurn.data.toList.drop 24 = dktX3_whyNotTurn_1 := dk_seg dksX3_whyNotTurn_0 24 rfl rfl
theorem dksX3_whyNotTurn_2 : cX3_whyNotTurn.data.toList.drop 48 = dktX3_whyNotTurn_2 := dk_seg dksX3_whyNotTurn_1 24 rfl rfl
theorem dX3_whyNotTurn_0 : decode cX3_whyNotTurn 0 = .ok (.aload_n 0, 1) := dk_42 (dk_at dksX3_whyNotTurn_0 0 rfl rfl)
theorem dX3_whyNotTurn_1 : decode cX3_whyNotTurn 1 = .ok (.invokevirtual 108, 3) := dk_182 0 108 (dk_at dksX3_whyNotTurn_0 1 rfl rfl)
theorem dX3_whyNotTurn_4 : decode cX3_whyNotTurn 4 = .ok (.ifCond .eq 6, 3) := dk_153 0 6 (dk_at dksX3_whyNotTurn_0 4 rfl rfl)
theorem dX3_whyNotTurn_7 : decode cX3_whyNotTurn 7 = .ok (.bipush 6, 2) := dk_16 6 (dk_at dksX3_whyNotTurn_0 7 rfl rfl)
theorem dX3_whyNotTurn_9 : decode cX3_whyNotTurn 9 = .ok (.ireturn, 1) := dk_172 (dk_at dksX3_whyNotTurn_0 9 rfl rfl)
theorem dX3_whyNotTurn_10 : decode cX3_whyNotTurn 10 = .ok (.aload_n 0, 1) := dk_42 (dk_at dksX3_whyNotTurn_0 10 rfl rfl)
theorem dX3_whyNotTurn_11 : decode cX3_whyNotTurn 11 = .ok (.getfield 9, 3) := dk_180 0 9 (dk_at dksX3_whyNotTurn_0 11 rfl rfl)
theorem dX3_whyNotTurn_14 : decode cX3_whyNotTurn 14 = .ok (.iload_n 1, 1) := dk_27 (dk_at dksX3_whyNotTurn_0 14 rfl rfl)
theorem dX3_whyNotTurn_15 : decode cX3_whyNotTurn 15 = .ok (.aaload, 1) := dk_50 (dk_at dksX3_whyNotTurn_0 15 rfl rfl)
theorem dX3_whyNotTurn_16 : decode cX3_whyNotTurn 16 = .ok (.instanceof 74, 3) := dk_193 0 74 (dk_at dksX3_whyNotTurn_0 16 rfl rfl)
theorem dX3_whyNotTurn_19 : decode cX3_whyNotTurn 19 = .ok (.ifCond .ne 6, 3) := dk_154 0 6 (dk_at dksX3_whyNotTurn_0 19 rfl rfl)
theorem dX3_whyNotTurn_22 : decode cX3_whyNotTurn 22 = .ok (.bipush 7, 2) := dk_16 7 (dk_at dksX3_whyNotTurn_0 22 rfl rfl)
theorem dX3_whyNotTurn_24 : decode cX3_whyNotTurn 24 = .ok (.ireturn, 1) := dk_172 (dk_at dksX3_whyNotTurn_1 0 rfl rfl)
theorem dX3_whyNotTurn_25 : decode cX3_whyNotTurn 25 = .ok (.aload_n 0, 1) := dk_42 (dk_at dksX3_whyNotTurn_1 1 rfl rfl)
theorem dX3_whyNotTurn_26 : decode cX3_whyNotTurn 26 = .ok (.getfield 9, 3) := dk_180 0 9 (dk_at dksX3_whyNotTurn_1 2 rfl rfl)
theorem dX3_whyNotTurn_29 : decode cX3_whyNotTurn 29 = .ok (.iload_n 1, 1) := dk_27 (dk_at dksX3_whyNotTurn_1 5 rfl rfl)
theorem dX3_whyNotTurn_30 : decode cX3_whyNotTurn 30 = .ok (.aaload, 1) := dk_50 (dk_at dksX3_whyNotTurn_1 6 rfl rfl)
theorem dX3_whyNotTurn_31 : decode cX3_whyNotTurn 31 = .ok (.checkcast 74, 3) := dk_192 0 74 (dk_at dksX3_whyNotTurn_1 7 rfl rfl)
theorem dX3_whyNotTurn_34 : decode cX3_whyNotTurn 34 = .ok (.astore_n 2, 1) := dk_77 (dk_at dksX3_whyNotTurn_1 10 rfl rfl)
theorem dX3_whyNotTurn_35 : decode cX3_whyNotTurn 35 = .ok (.aload_n 2, 1) := dk_44 (dk_at dksX3_whyNotTurn_1 11 rfl rfl)
theorem dX3_whyNotTurn_36 : decode cX3_whyNotTurn 36 = .ok (.getfield 129, 3) := dk_180 0 129 (dk_at dksX3_whyNotTurn_1 12 rfl rfl)
theorem dX3_whyNotTurn_39 : decode cX3_whyNotTurn 39 = .ok (.iconst 3, 1) := dk_6 (dk_at dksX3_whyNotTurn_1 15 rfl rfl)
theorem dX3_whyNotTurn_40 : decode cX3_whyNotTurn 40 = .ok (.aload_n 0, 1) := dk_42 (dk_at dksX3_whyNotTurn_1 16 rfl rfl)
theorem dX3_whyNotTurn_41 : decode cX3_whyNotTurn 41 = .ok (.invokevirtual 131, 3) := dk_182 0 131 (dk_at dksX3_whyNotTurn_1 17 rfl rfl)
theorem dX3_whyNotTurn_44 : decode cX3_whyNotTurn 44 = .ok (.isub, 1) := dk_100 (dk_at dksX3_whyNotTurn_1 20 rfl rfl)
theorem dX3_whyNotTurn_45 : decode cX3_whyNotTurn 45 = .ok (.if_icmp .ne 6, 3) := dk_160 0 6 (dk_at dksX3_whyNotTurn_1 21 rfl rfl)
theorem dX3_whyNotTurn_48 : decode cX3_whyNotTurn 48 = .ok (.bipush 8, 2) := dk_16 8 (dk_at dksX3_whyNotTurn_2 0 rfl rfl)
theorem dX3_whyNotTurn_50 : decode cX3_whyNotTurn 50 = .ok (.ireturn, 1) := dk_172 (dk_at dksX3_whyNotTurn_2 2 rfl rfl)
theorem dX3_whyNotTurn_51 : decode cX3_whyNotTurn 51 = .ok (.aload_n 2, 1) := dk_44 (dk_at dksX3_whyNotTurn_2 3 rfl rfl)
theorem dX3_whyNotTurn_52 : decode cX3_whyNotTurn 52 = .ok (.getfield 134, 3) := dk_180 0 134 (dk_at dksX3_whyNotTurn_2 4 rfl rfl)
theorem dX3_whyNotTurn_55 : decode cX3_whyNotTurn 55 = .ok (.ifCond .ne 7, 3) := dk_154 0 7 (dk_at dksX3_whyNotTurn_2 7 rfl rfl)
theorem dX3_whyNotTurn_58 : decode cX3_whyNotTurn 58 = .ok (.iconst 0, 1) := dk_3 (dk_at dksX3_whyNotTurn_2 10 rfl rfl)
theorem dX3_whyNotTurn_59 : decode cX3_whyNotTurn 59 = .ok (.goto 5, 3) := dk_167 0 5 (dk_at dksX3_whyNotTurn_2 11 rfl rfl)
theorem dX3_whyNotTurn_62 : decode cX3_whyNotTurn 62 = .ok (.bipush 9, 2) := dk_16 9 (dk_at dksX3_whyNotTurn_2 14 rfl rfl)
theorem dX3_whyNotTurn_64 : decode cX3_whyNotTurn 64 = .ok (.ireturn, 1) := dk_172 (dk_at dksX3_whyNotTurn_2 16 rfl rfl)
abbrev cX3_isOver : ByteArray := prog_13_method_13_code
def yX3_isOver : MethodName := ⟨RX3, "isOver", "()Z"⟩
def dkwX3_isOver_1 : List UInt8 := [161, 0, 7, 4, 167, 0, 4, 3, 172]
abbrev dktX3_isOver_1 : List UInt8 := dkwX3_isOver_1 ++ []
def dkwX3_isOver_0 : List UInt8 := [42, 4, 182, 0, 104, 154, 0, 22, 42, 5, 182, 0, 104, 154, 0, 14, 42, 180, 0, 54, 42, 180, 0, 30]
abbrev dktX3_isOver_0 : List UInt8 := dkwX3_isOver_0 ++ dktX3_isOver_1
theorem dksX3_isOver_0 : cX3_isOver.data.toList.drop 0 = dktX3_isOver_0 := by decide +kernel
theorem dksX3_isOver_1 : cX3_isOver.data.toList.drop 24 = dktX3_isOver_1 := dk_seg dksX3_isOver_0 24 rfl rfl
theorem dX3_isOver_0 : decode cX3_isOver 0 = .ok (.aload_n 0, 1) := dk_42 (dk_at dksX3_isOver_0 0 rfl rfl)
theorem dX3_isOver_1 : decode cX3_isOver 1 = .ok (.iconst 1, 1) := dk_4 (dk_at dksX3_isOver_0 1 rfl rfl)
theorem dX3_isOver_2 : decode cX3_isOver 2 = .ok (.invokevirtual 104, 3) := dk_182 0 104 (dk_at dksX3_isOver_0 2 rfl rfl)
theorem dX3_isOver_5 : decode cX3_isOver 5 = .ok (.ifCond .ne 22, 3) := dk_154 0 22 (dk_at dksX3_isOver_0 5 rfl rfl)
theorem dX3_isOver_8 : decode cX3_isOver 8 = .ok (.aload_n 0, 1) := dk_42 (dk_at dksX3_isOver_0 8 rfl rfl)
theorem dX3_isOver_9 : decode cX3_isOver 9 = .ok (.iconst 2, 1) := dk_5 (dk_at dksX3_isOver_0 9 rfl rfl)
theorem dX3_isOver_10 : decode cX3_isOver 10 = .ok (.invokevirtual 104, 3) := dk_182 0 104 (dk_at dksX3_isOver_0 10 rfl rfl)
theorem dX3_isOver_13 : decode cX3_isOver 13 = .ok (.ifCond .ne 14, 3) := dk_154 0 14 (dk_at dksX3_isOver_0 13 rfl rfl)
theorem dX3_isOver_16 : decode cX3_isOver 16 = .ok (.aload_n 0, 1) := dk_42 (dk_at dksX3_isOver_0 16 rfl rfl)
theorem dX3_isOver_17 : decode cX3_isOver 17 = .ok (.getfield 54, 3) := dk_180 0 54 (dk_at dksX3_isOver_0 17 rfl rfl)
theorem dX3_isOver_20 : decode cX3_isOver 20 = .ok (.aload_n 0, 1) := dk_42 (dk_at dksX3_isOver_0 20 rfl rfl)
theorem dX3_isOver_21 : decode cX3_isOver 21 = .ok (.getfield 30, 3) := dk_180 0 30 (dk_at dksX3_isOver_0 21 rfl rfl)
theorem dX3_isOver_24 : decode cX3_isOver 24 = .ok (.if_icmp .lt 7, 3) := dk_161 0 7 (dk_at dksX3_isOver_1 0 rfl rfl)
theorem dX3_isOver_27 : decode cX3_isOver 27 = .ok (.iconst 1, 1) := dk_4 (dk_at dksX3_isOver_1 3 rfl rfl)
theorem dX3_isOver_28 : decode cX3_isOver 28 = .ok (.goto 4, 3) := dk_167 0 4 (dk_at dksX3_isOver_1 4 rfl rfl)
theorem dX3_isOver_31 : decode cX3_isOver 31 = .ok (.iconst 0, 1) := dk_3 (dk_at dksX3_isOver_1 7 rfl rfl)
theorem dX3_isOver_32 : decode cX3_isOver 32 = .ok (.ireturn, 1) := dk_172 (dk_at dksX3_isOver_1 8 rfl rfl)
abbrev cX3_hasAll : ByteArray := prog_13_method_12_code
def yX3_hasAll : MethodName := ⟨RX3, "hasAll", "(I)Z"⟩
def dkwX3_hasAll_1 : List UInt8 := [167, 0, 4, 3, 172]
abbrev dktX3_hasAll_1 : List UInt8 := dkwX3_hasAll_1 ++ []
def dkwX3_hasAll_0 : List UInt8 := [42, 27, 182, 0, 97, 158, 0, 20, 42, 27, 182, 0, 101, 42, 27, 182, 0, 97, 160, 0, 7, 4]
abbrev dktX3_hasAll_0 : List UInt8 := dkwX3_hasAll_0 ++ dktX3_hasAll_1
theorem dksX3_hasAll_0 : cX3_hasAll.data.toList.drop 0 = dktX3_hasAll_0 := by decide +kernel
theorem dksX3_hasAll_1 : cX3_hasAll.data.toList.drop 22 = dktX3_hasAll_1 := dk_seg dksX3_hasAll_0 22 rfl rfl
theorem dX3_hasAll_0 : decode cX3_hasAll 0 = .ok (.aload_n 0, 1) := dk_42 (dk_at dksX3_hasAll_0 0 rfl rfl)
theorem dX3_hasAll_1 : decode cX3_hasAll 1 = .ok (.iload_n 1, 1) := dk_27 (dk_at dksX3_hasAll_0 1 rfl rfl)
theorem dX3_hasAll_2 : decode cX3_hasAll 2 = .ok (.invokevirtual 97, 3) := dk_182 0 97 (dk_at dksX3_hasAll_0 2 rfl rfl)
theorem dX3_hasAll_5 : decode cX3_hasAll 5 = .ok (.ifCond .le 20, 3) := dk_158 0 20 (dk_at dksX3_hasAll_0 5 rfl rfl)
theorem dX3_hasAll_8 : decode cX3_hasAll 8 = .ok (.aload_n 0, 1) := dk_42 (dk_at dksX3_hasAll_0 8 rfl rfl)
theorem dX3_hasAll_9 : decode cX3_hasAll 9 = .ok (.iload_n 1, 1) := dk_27 (dk_at dksX3_hasAll_0 9 rfl rfl)
theorem dX3_hasAll_10 : decode cX3_hasAll 10 = .ok (.invokevirtual 101, 3) := dk_182 0 101 (dk_at dksX3_hasAll_0 10 rfl rfl)
theorem dX3_hasAll_13 : decode cX3_hasAll 13 = .ok (.aload_n 0, 1) := dk_42 (dk_at dksX3_hasAll_0 13 rfl rfl)
theorem dX3_hasAll_14 : decode cX3_hasAll 14 = .ok (.iload_n 1, 1) := dk_27 (dk_at dksX3_hasAll_0 14 rfl rfl)
theorem dX3_hasAll_15 : decode cX3_hasAll 15 = .ok (.invokevirtual 97, 3) := dk_182 0 97 (dk_at dksX3_hasAll_0 15 rfl rfl)
theorem dX3_hasAll_18 : decode cX3_hasAll 18 = .ok (.if_icmp .ne 7, 3) := dk_160 0 7 (dk_at dksX3_hasAll_0 18 rfl rfl)
theorem dX3_hasAll_21 : decode cX3_hasAll 21 = .ok (.iconst 1, 1) := dk_4 (dk_at dksX3_hasAll_0 21 rfl rfl)
theorem dX3_hasAll_22 : decode cX3_hasAll 22 = .ok (.goto 4, 3) := dk_167 0 4 (dk_at dksX3_hasAll_1 0 rfl rfl)
theorem dX3_hasAll_25 : decode cX3_hasAll 25 = .ok (.iconst 0, 1) := dk_3 (dk_at dksX3_hasAll_1 3 rfl rfl)
theorem dX3_hasAll_26 : decode cX3_hasAll 26 = .ok (.ireturn, 1) := dk_172 (dk_at dksX3_hasAll_1 4 rfl rfl)
abbrev cX3_doorsOf : ByteArray := prog_13_method_11_code
def yX3_doorsOf : MethodName := ⟨RX3, "doorsOf", "(I)I"⟩
def dkwX3_doorsOf_2 : List UInt8 := [167, 0, 4, 3, 96, 61, 132, 5, 1, 167, 255, 215, 28, 172]
abbrev dktX3_doorsOf_2 : List UInt8 := dkwX3_doorsOf_2 ++ []
def dkwX3_doorsOf_1 : List UInt8 := [50, 58, 6, 28, 25, 6, 193, 0, 76, 153, 0, 16, 25, 6, 182, 0, 90, 27, 160, 0, 7, 4]
abbrev dktX3_doorsOf_1 : List UInt8 := dkwX3_doorsOf_1 ++ dktX3_doorsOf_2
def dkwX3_doorsOf_0 : List UInt8 := [3, 61, 42, 180, 0, 9, 78, 45, 190, 54, 4, 3, 54, 5, 21, 5, 21, 4, 162, 0, 40, 45, 21, 5]
abbrev dktX3_doorsOf_0 : List UInt8 := dkwX3_doorsOf_0 ++ dktX3_doorsOf_1
theorem dksX3_doorsOf_0 : cX3_doorsOf.data.toList.drop 0 = dktX3_doorsOf_0 := by decide +kernel
theorem dksX3_doorsOf_1 : cX3_doorsOf.data.toList.drop 24 = dktX3_doorsOf_1 := dk_seg dksX3_doorsOf_0 24 rfl rfl
theorem dksX3_doorsOf_2 : cX3_doorsOf.data.toList.drop 46 = dktX3_doorsOf_2 := dk_seg dksX3_doorsOf_1 22 rfl rfl
theorem dX3_doorsOf_0 : decode cX3_doorsOf 0 = .ok (.iconst 0, 1) := dk_3 (dk_at dksX3_doorsOf_0 0 rfl rfl)
theorem dX3_doorsOf_1 : decode cX3_doorsOf 1 = .ok (.istore_n 2, 1) := dk_61 (dk_at dksX3_doorsOf_0 1 rfl rfl)
theorem dX3_doorsOf_2 : decode cX3_doorsOf 2 = .ok (.aload_n 0, 1) := dk_42 (dk_at dksX3_doorsOf_0 2 rfl rfl)
theorem dX3_doorsOf_3 : decode cX3_doorsOf 3 = .ok (.getfield 9, 3) := dk_180 0 9 (dk_at dksX3_doorsOf_0 3 rfl rfl)
theorem dX3_doorsOf_6 : decode cX3_doorsOf 6 = .ok (.astore_n 3, 1) := dk_78 (dk_at dksX3_doorsOf_0 6 rfl rfl)
theorem dX3_doorsOf_7 : decode cX3_doorsOf 7 = .ok (.aload_n 3, 1) := dk_45 (dk_at dksX3_doorsOf_0 7 rfl rfl)
theorem dX3_doorsOf_8 : decode cX3_doorsOf 8 = .ok (.arraylength, 1) := dk_190 (dk_at dksX3_doorsOf_0 8 rfl rfl)
theorem dX3_doorsOf_9 : decode cX3_doorsOf 9 = .ok (.istore 4, 2) := dk_54 4 (dk_at dksX3_doorsOf_0 9 rfl rfl)
theorem dX3_doorsOf_11 : decode cX3_doorsOf 11 = .ok (.iconst 0, 1) := dk_3 (dk_at dksX3_doorsOf_0 11 rfl rfl)
theorem dX3_doorsOf_12 : decode cX3_doorsOf 12 = .ok (.istore 5, 2) := dk_54 5 (dk_at dksX3_doorsOf_0 12 rfl rfl)
theorem dX3_doorsOf_14 : decode cX3_doorsOf 14 = .ok (.iload 5, 2) := dk_21 5 (dk_at dksX3_doorsOf_0 14 rfl rfl)
theorem dX3_doorsOf_16 : decode cX3_doorsOf 16 = .ok (.iload 4, 2) := dk_21 4 (dk_at dksX3_doorsOf_0 16 rfl rfl)
theorem dX3_doorsOf_18 : decode cX3_doorsOf 18 = .ok (.if_icmp .ge 40, 3) := dk_162 0 40 (dk_at dksX3_doorsOf_0 18 rfl rfl)
theorem dX3_doorsOf_21 : decode cX3_doorsOf 21 = .ok (.aload_n 3, 1) := dk_45 (dk_at dksX3_doorsOf_0 21 rfl rfl)
theorem dX3_doorsOf_22 : decode cX3_doorsOf 22 = .ok (.iload 5, 2) := dk_21 5 (dk_at dksX3_doorsOf_0 22 rfl rfl)
theorem dX3_doorsOf_24 : decode cX3_doorsOf 24 = .ok (.aaload, 1) := dk_50 (dk_at dksX3_doorsOf_1 0 rfl rfl)
theorem dX3_doorsOf_25 : decode cX3_doorsOf 25 = .ok (.astore 6, 2) := dk_58 6 (dk_at dksX3_doorsOf_1 1 rfl rfl)
theorem dX3_doorsOf_27 : decode cX3_doorsOf 27 = .ok (.iload_n 2, 1) := dk_28 (dk_at dksX3_doorsOf_1 3 rfl rfl)
theorem dX3_doorsOf_28 : decode cX3_doorsOf 28 = .ok (.aload 6, 2) := dk_25 6 (dk_at dksX3_doorsOf_1 4 rfl rfl)
theorem dX3_doorsOf_30 : decode cX3_doorsOf 30 = .ok (.instanceof 76, 3) := dk_193 0 76 (dk_at dksX3_doorsOf_1 6 rfl rfl)
theorem dX3_doorsOf_33 : decode cX3_doorsOf 33 = .ok (.ifCond .eq 16, 3) := dk_153 0 16 (dk_at dksX3_doorsOf_1 9 rfl rfl)
theorem dX3_doorsOf_36 : decode cX3_doorsOf 36 = .ok (.aload 6, 2) := dk_25 6 (dk_at dksX3_doorsOf_1 12 rfl rfl)
theorem dX3_doorsOf_38 : decode cX3_doorsOf 38 = .ok (.invokevirtual 90, 3) := dk_182 0 90 (dk_at dksX3_doorsOf_1 14 rfl rfl)
theorem dX3_doorsOf_41 : decode cX3_doorsOf 41 = .ok (.iload_n 1, 1) := dk_27 (dk_at dksX3_doorsOf_1 17 rfl rfl)
theorem dX3_doorsOf_42 : decode cX3_doorsOf 42 = .ok (.if_icmp .ne 7, 3) := dk_160 0 7 (dk_at dksX3_doorsOf_1 18 rfl rfl)
theorem dX3_doorsOf_45 : decode cX3_doorsOf 45 = .ok (.iconst 1, 1) := dk_4 (dk_at dksX3_doorsOf_1 21 rfl rfl)
theorem dX3_doorsOf_46 : decode cX3_doorsOf 46 = .ok (.goto 4, 3) := dk_167 0 4 (dk_at dksX3_doorsOf_2 0 rfl rfl)
theorem dX3_doorsOf_49 : decode cX3_doorsOf 49 = .ok (.iconst 0, 1) := dk_3 (dk_at dksX3_doorsOf_2 3 rfl rfl)
theorem dX3_doorsOf_50 : decode cX3_doorsOf 50 = .ok (.iadd, 1) := dk_96 (dk_at dksX3_doorsOf_2 4 rfl rfl)
theorem dX3_doorsOf_51 : decode cX3_doorsOf 51 = .ok (.istore_n 2, 1) := dk_61 (dk_at dksX3_doorsOf_2 5 rfl rfl)
theorem dX3_doorsOf_52 : decode cX3_doorsOf 52 = .ok (.iinc 5 1, 3) := dk_132 5 1 (dk_at dksX3_doorsOf_2 6 rfl rfl)
theorem dX3_doorsOf_55 : decode cX3_doorsOf 55 = .ok (.goto (-41), 3) := dk_167 255 215 (dk_at dksX3_doorsOf_2 9 rfl rfl)
theorem dX3_doorsOf_58 : decode cX3_doorsOf 58 = .ok (.iload_n 2, 1) := dk_28 (dk_at dksX3_doorsOf_2 12 rfl rfl)
theorem dX3_doorsOf_59 : decode cX3_doorsOf 59 = .ok (.ireturn, 1) := dk_172 (dk_at dksX3_doorsOf_2 13 rfl rfl)
abbrev cX3_points : ByteArray := prog_13_method_10_code
def yX3_points : MethodName := ⟨RX3, "points", "(I)I"⟩
def dkwX3_points_2 : List UInt8 := [192, 0, 76, 182, 0, 93, 153, 0, 7, 4, 167, 0, 4, 3, 96, 61, 132, 5, 1, 167, 255, 204, 28, 172]
abbrev dktX3_points_2 : List UInt8 := dkwX3_points_2 ++ []
def dkwX3_points_1 : List UInt8 := [50, 58, 6, 28, 25, 6, 193, 0, 76, 153, 0, 27, 25, 6, 182, 0, 90, 27, 160, 0, 18, 25, 6]
abbrev dktX3_points_1 : List UInt8 := dkwX3_points_1 ++ dktX3_points_2
def dkwX3_points_0 : List UInt8 := [3, 61, 42, 180, 0, 9, 78, 45, 190, 54, 4, 3, 54, 5, 21, 5, 21, 4, 162, 0, 51, 45, 21, 5]
abbrev dktX3_points_0 : List UInt8 := dkwX3_points_0 ++ dktX3_points_1
theorem dksX3_points_0 : cX3_points.data.toList.drop 0 = dktX3_points_0 := by decide +kernel
theorem dksX3_points_1 : cX3_points.data.toList.drop 24 = dktX3_points_1 := dk_seg dksX3_points_0 24 rfl rfl
theorem dksX3_points_2 : cX3_points.data.toList.drop 47 = dktX3_points_2 := dk_seg dksX3_points_1 23 rfl rfl
theorem dX3_points_0 : decode cX3_points 0 = .ok (.iconst 0, 1) := dk_3 (dk_at dksX3_points_0 0 rfl rfl)
theorem dX3_points_1 : decode cX3_points 1 = .ok (.istore_n 2, 1) := dk_61 (dk_at dksX3_points_0 1 rfl rfl)
theorem dX3_points_2 : decode cX3_points 2 = .ok (.aload_n 0, 1) := dk_42 (dk_at dksX3_points_0 2 rfl rfl)
theorem dX3_points_3 : decode cX3_points 3 = .ok (.getfield 9, 3) := dk_180 0 9 (dk_at dksX3_points_0 3 rfl rfl)
theorem dX3_points_6 : decode cX3_points 6 = .ok (.astore_n 3, 1) := dk_78 (dk_at dksX3_points_0 6 rfl rfl)
theorem dX3_points_7 : decode cX3_points 7 = .ok (.aload_n 3, 1) := dk_45 (dk_at dksX3_points_0 7 rfl rfl)
theorem dX3_points_8 : decode cX3_points 8 = .ok (.arraylength, 1) := dk_190 (dk_at dksX3_points_0 8 rfl rfl)
theorem dX3_points_9 : decode cX3_points 9 = .ok (.istore 4, 2) := dk_54 4 (dk_at dksX3_points_0 9 rfl rfl)
theorem dX3_points_11 : decode cX3_points 11 = .ok (.iconst 0, 1) := dk_3 (dk_at dksX3_points_0 11 rfl rfl)
theorem dX3_points_12 : decode cX3_points 12 = .ok (.istore 5, 2) := dk_54 5 (dk_at dksX3_points_0 12 rfl rfl)
theorem dX3_points_14 : decode cX3_points 14 = .ok (.iload 5, 2) := dk_21 5 (dk_at dksX3_points_0 14 rfl rfl)
theorem dX3_points_16 : decode cX3_points 16 = .ok (.iload 4, 2) := dk_21 4 (dk_at dksX3_points_0 16 rfl rfl)
theorem dX3_points_18 : decode cX3_points 18 = .ok (.if_icmp .ge 51, 3) := dk_162 0 51 (dk_at dksX3_points_0 18 rfl rfl)
theorem dX3_points_21 : decode cX3_points 21 = .ok (.aload_n 3, 1) := dk_45 (dk_at dksX3_points_0 21 rfl rfl)
theorem dX3_points_22 : decode cX3_points 22 = .ok (.iload 5, 2) := dk_21 5 (dk_at dksX3_points_0 22 rfl rfl)
theorem dX3_points_24 : decode cX3_points 24 = .ok (.aaload, 1) := dk_50 (dk_at dksX3_points_1 0 rfl rfl)
theorem dX3_points_25 : decode cX3_points 25 = .ok (.astore 6, 2) := dk_58 6 (dk_at dksX3_points_1 1 rfl rfl)
theorem dX3_points_27 : decode cX3_points 27 = .ok (.iload_n 2, 1) := dk_28 (dk_at dksX3_points_1 3 rfl rfl)
theorem dX3_points_28 : decode cX3_points 28 = .ok (.aload 6, 2) := dk_25 6 (dk_at dksX3_points_1 4 rfl rfl)
theorem dX3_points_30 : decode cX3_points 30 = .ok (.instanceof 76, 3) := dk_193 0 76 (dk_at dksX3_points_1 6 rfl rfl)
theorem dX3_points_33 : decode cX3_points 33 = .ok (.ifCond .eq 27, 3) := dk_153 0 27 (dk_at dksX3_points_1 9 rfl rfl)
theorem dX3_points_36 : decode cX3_points 36 = .ok (.aload 6, 2) := dk_25 6 (dk_at dksX3_points_1 12 rfl rfl)
theorem dX3_points_38 : decode cX3_points 38 = .ok (.invokevirtual 90, 3) := dk_182 0 90 (dk_at dksX3_points_1 14 rfl rfl)
theorem dX3_points_41 : decode cX3_points 41 = .ok (.iload_n 1, 1) := dk_27 (dk_at dksX3_points_1 17 rfl rfl)
theorem dX3_points_42 : decode cX3_points 42 = .ok (.if_icmp .ne 18, 3) := dk_160 0 18 (dk_at dksX3_points_1 18 rfl rfl)
theorem dX3_points_45 : decode cX3_points 45 = .ok (.aload 6, 2) := dk_25 6 (dk_at dksX3_points_1 21 rfl rfl)
theorem dX3_points_47 : decode cX3_points 47 = .ok (.checkcast 76, 3) := dk_192 0 76 (dk_at dksX3_points_2 0 rfl rfl)
theorem dX3_points_50 : decode cX3_points 50 = .ok (.invokevirtual 93, 3) := dk_182 0 93 (dk_at dksX3_points_2 3 rfl rfl)
theorem dX3_points_53 : decode cX3_points 53 = .ok (.ifCond .eq 7, 3) := dk_153 0 7 (dk_at dksX3_points_2 6 rfl rfl)
theorem dX3_points_56 : decode cX3_points 56 = .ok (.iconst 1, 1) := dk_4 (dk_at dksX3_points_2 9 rfl rfl)
theorem dX3_points_57 : decode cX3_points 57 = .ok (.goto 4, 3) := dk_167 0 4 (dk_at dksX3_points_2 10 rfl rfl)
theorem dX3_points_60 : decode cX3_points 60 = .ok (.iconst 0, 1) := dk_3 (dk_at dksX3_points_2 13 rfl rfl)
theorem dX3_points_61 : decode cX3_points 61 = .ok (.iadd, 1) := dk_96 (dk_at dksX3_points_2 14 rfl rfl)
theorem dX3_points_62 : decode cX3_points 62 = .ok (.istore_n 2, 1) := dk_61 (dk_at dksX3_points_2 15 rfl rfl)
theorem dX3_points_63 : decode cX3_points 63 = .ok (.iinc 5 1, 3) := dk_132 5 1 (dk_at dksX3_points_2 16 rfl rfl)
theorem dX3_points_66 : decode cX3_points 66 = .ok (.goto (-52), 3) := dk_167 255 204 (dk_at dksX3_points_2 19 rfl rfl)
theorem dX3_points_69 : decode cX3_points 69 = .ok (.iload_n 2, 1) := dk_28 (dk_at dksX3_points_2 22 rfl rfl)
theorem dX3_points_70 : decode cX3_points 70 = .ok (.ireturn, 1) := dk_172 (dk_at dksX3_points_2 23 rfl rfl)
abbrev cX3_mover : ByteArray := prog_13_method_9_code
def yX3_mover : MethodName := ⟨RX3, "mover", "()I"⟩
def dkwX3_mover_0 : List UInt8 := [4, 42, 180, 0, 54, 5, 112, 96, 172]
abbrev dktX3_mover_0 : List UInt8 := dkwX3_mover_0 ++ []
theorem dksX3_mover_0 : cX3_mover.data.toList.drop 0 = dktX3_mover_0 := by decide +kernel
theorem dX3_mover_0 : decode cX3_mover 0 = .ok (.iconst 1, 1) := dk_4 (dk_at dksX3_mover_0 0 rfl rfl)
theorem dX3_mover_1 : decode cX3_mover 1 = .ok (.aload_n 0, 1) := dk_42 (dk_at dksX3_mover_0 1 rfl rfl)
theorem dX3_mover_2 : decode cX3_mover 2 = .ok (.getfield 54, 3) := dk_180 0 54 (dk_at dksX3_mover_0 2 rfl rfl)
theorem dX3_mover_5 : decode cX3_mover 5 = .ok (.iconst 2, 1) := dk_5 (dk_at dksX3_mover_0 5 rfl rfl)
theorem dX3_mover_6 : decode cX3_mover 6 = .ok (.irem, 1) := dk_112 (dk_at dksX3_mover_0 6 rfl rfl)
theorem dX3_mover_7 : decode cX3_mover 7 = .ok (.iadd, 1) := dk_96 (dk_at dksX3_mover_0 7 rfl rfl)
theorem dX3_mover_8 : decode cX3_mover 8 = .ok (.ireturn, 1) := dk_172 (dk_at dksX3_mover_0 8 rfl rfl)
abbrev cX3_moves : ByteArray := prog_13_method_19_code
def yX3_moves : MethodName := ⟨RX3, "moves", "(LMirrorDoors$Mirror;)I"⟩
def dkwX3_moves_4 : List UInt8 := [182, 0, 131, 181, 0, 57, 42, 89, 180, 0, 54, 4, 96, 181, 0, 54, 42, 182, 0, 150, 172]
abbrev dktX3_moves_4 : List UInt8 := dkwX3_moves_4 ++ []
def dkwX3_moves_3 : List UInt8 := [181, 0, 144, 43, 42, 180, 0, 51, 181, 0, 134, 43, 89, 180, 0, 147, 4, 96, 181, 0, 147, 42, 42]
abbrev dktX3_moves_3 : List UInt8 := dkwX3_moves_3 ++ dktX3_moves_4
def dkwX3_moves_2 : List UInt8 := [100, 184, 0, 138, 181, 0, 134, 132, 4, 1, 167, 255, 210, 43, 198, 0, 31, 43, 4, 43, 180, 0, 144, 100]
abbrev dktX3_moves_2 : List UInt8 := dkwX3_moves_2 ++ dktX3_moves_3
def dkwX3_moves_1 : List UInt8 := [25, 5, 193, 0, 74, 153, 0, 26, 25, 5, 192, 0, 74, 58, 6, 25, 6, 3, 25, 6, 180, 0, 134, 4]
abbrev dktX3_moves_1 : List UInt8 := dkwX3_moves_1 ++ dktX3_moves_2
def dkwX3_moves_0 : List UInt8 := [42, 180, 0, 9, 77, 44, 190, 62, 3, 54, 4, 21, 4, 29, 162, 0, 46, 44, 21, 4, 50, 58, 5]
abbrev dktX3_moves_0 : List UInt8 := dkwX3_moves_0 ++ dktX3_moves_1
theorem dksX3_moves_0 : cX3_moves.data.toList.drop 0 = dktX3_moves_0 := by decide +kernel
theorem dksX3_moves_1 : cX3_moves.data.toList.drop 23 = dktX3_moves_1 := dk_seg dksX3_moves_0 23 rfl rfl
theorem dksX3_moves_2 : cX3_moves.data.toList.drop 47 = dktX3_moves_2 := dk_seg dksX3_moves_1 24 rfl rfl
theorem dksX3_moves_3 : cX3_moves.data.toList.drop 71 = dktX3_moves_3 := dk_seg dksX3_moves_2 24 rfl rfl
theorem dksX3_moves_4 : cX3_moves.data.toList.drop 94 = dktX3_moves_4 := dk_seg dksX3_moves_3 23 rfl rfl
theorem dX3_moves_0 : decode cX3_moves 0 = .ok (.aload_n 0, 1) := dk_42 (dk_at dksX3_moves_0 0 rfl rfl)
theorem dX3_moves_1 : decode cX3_moves 1 = .ok (.getfield 9, 3) := dk_180 0 9 (dk_at dksX3_moves_0 1 rfl rfl)
theorem dX3_moves_4 : decode cX3_moves 4 = .ok (.astore_n 2, 1) := dk_77 (dk_at dksX3_moves_0 4 rfl rfl)
theorem dX3_moves_5 : decode cX3_moves 5 = .ok (.aload_n 2, 1) := dk_44 (dk_at dksX3_moves_0 5 rfl rfl)
theorem dX3_moves_6 : decode cX3_moves 6 = .ok (.arraylength, 1) := dk_190 (dk_at dksX3_moves_0 6 rfl rfl)
theorem dX3_moves_7 : decode cX3_moves 7 = .ok (.istore_n 3, 1) := dk_62 (dk_at dksX3_moves_0 7 rfl rfl)
theorem dX3_moves_8 : decode cX3_moves 8 = .ok (.iconst 0, 1) := dk_3 (dk_at dksX3_moves_0 8 rfl rfl)
theorem dX3_moves_9 : decode cX3_moves 9 = .ok (.istore 4, 2) := dk_54 4 (dk_at dksX3_moves_0 9 rfl rfl)
theorem dX3_moves_11 : decode cX3_moves 11 = .ok (.iload 4, 2) := dk_21 4 (dk_at dksX3_moves_0 11 rfl rfl)
theorem dX3_moves_13 : decode cX3_moves 13 = .ok (.iload_n 3, 1) := dk_29 (dk_at dksX3_moves_0 13 rfl rfl)
theorem dX3_moves_14 : decode cX3_moves 14 = .ok (.if_icmp .ge 46, 3) := dk_162 0 46 (dk_at dksX3_moves_0 14 rfl rfl)
theorem dX3_moves_17 : decode cX3_moves 17 = .ok (.aload_n 2, 1) := dk_44 (dk_at dksX3_moves_0 17 rfl rfl)
theorem dX3_moves_18 : decode cX3_moves 18 = .ok (.iload 4, 2) := dk_21 4 (dk_at dksX3_moves_0 18 rfl rfl)
theorem dX3_moves_20 : decode cX3_moves 20 = .ok (.aaload, 1) := dk_50 (dk_at dksX3_moves_0 20 rfl rfl)
theorem dX3_moves_21 : decode cX3_moves 21 = .ok (.astore 5, 2) := dk_58 5 (dk_at dksX3_moves_0 21 rfl rfl)
theorem dX3_moves_23 : decode cX3_moves 23 = .ok (.aload 5, 2) := dk_25 5 (dk_at dksX3_moves_1 0 rfl rfl)
theorem dX3_moves_25 : decode cX3_moves 25 = .ok (.instanceof 74, 3) := dk_193 0 74 (dk_at dksX3_moves_1 2 rfl rfl)
theorem dX3_moves_28 : decode cX3_moves 28 = .ok (.ifCond .eq 26, 3) := dk_153 0 26 (dk_at dksX3_moves_1 5 rfl rfl)
theorem dX3_moves_31 : decode cX3_moves 31 = .ok (.aload 5, 2) := dk_25 5 (dk_at dksX3_moves_1 8 rfl rfl)
theorem dX3_moves_33 : decode cX3_moves 33 = .ok (.checkcast 74, 3) := dk_192 0 74 (dk_at dksX3_moves_1 10 rfl rfl)
theorem dX3_moves_36 : decode cX3_moves 36 = .ok (.astore 6, 2) := dk_58 6 (dk_at dksX3_moves_1 13 rfl rfl)
theorem dX3_moves_38 : decode cX3_moves 38 = .ok (.aload 6, 2) := dk_25 6 (dk_at dksX3_moves_1 15 rfl rfl)
theorem dX3_moves_40 : decode cX3_moves 40 = .ok (.iconst 0, 1) := dk_3 (dk_at dksX3_moves_1 17 rfl rfl)
theorem dX3_moves_41 : decode cX3_moves 41 = .ok (.aload 6, 2) := dk_25 6 (dk_at dksX3_moves_1 18 rfl rfl)
theorem dX3_moves_43 : decode cX3_moves 43 = .ok (.getfield 134, 3) := dk_180 0 134 (dk_at dksX3_moves_1 20 rfl rfl)
theorem dX3_moves_46 : decode cX3_moves 46 = .ok (.iconst 1, 1) := dk_4 (dk_at dksX3_moves_1 23 rfl rfl)
theorem dX3_moves_47 : decode cX3_moves 47 = .ok (.isub, 1) := dk_100 (dk_at dksX3_moves_2 0 rfl rfl)
theorem dX3_moves_48 : decode cX3_moves 48 = .ok (.invokestatic 138, 3) := dk_184 0 138 (dk_at dksX3_moves_2 1 rfl rfl)
theorem dX3_moves_51 : decode cX3_moves 51 = .ok (.putfield 134, 3) := dk_181 0 134 (dk_at dksX3_moves_2 4 rfl rfl)
theorem dX3_moves_54 : decode cX3_moves 54 = .ok (.iinc 4 1, 3) := dk_132 4 1 (dk_at dksX3_moves_2 7 rfl rfl)
theorem dX3_moves_57 : decode cX3_moves 57 = .ok (.goto (-46), 3) := dk_167 255 210 (dk_at dksX3_moves_2 10 rfl rfl)
theorem dX3_moves_60 : decode cX3_moves 60 = .ok (.aload_n 1, 1) := dk_43 (dk_at dksX3_moves_2 13 rfl rfl)
theorem dX3_moves_61 : decode cX3_moves 61 = .ok (.ifnull 31, 3) := dk_198 0 31 (dk_at dksX3_moves_2 14 rfl rfl)
theorem dX3_moves_64 : decode cX3_moves 64 = .ok (.aload_n 1, 1) := dk_43 (dk_at dksX3_moves_2 17 rfl rfl)
theorem dX3_moves_65 : decode cX3_moves 65 = .ok (.iconst 1, 1) := dk_4 (dk_at dksX3_moves_2 18 rfl rfl)
theorem dX3_moves_66 : decode cX3_moves 66 = .ok (.aload_n 1, 1) := dk_43 (dk_at dksX3_moves_2 19 rfl rfl)
theorem dX3_moves_67 : decode cX3_moves 67 = .ok (.getfield 144, 3) := dk_180 0 144 (dk_at dksX3_moves_2 20 rfl rfl)
theorem dX3_moves_70 : decode cX3_moves 70 = .ok (.isub, 1) := dk_100 (dk_at dksX3_moves_2 23 rfl rfl)
theorem dX3_moves_71 : decode cX3_moves 71 = .ok (.putfield 144, 3) := dk_181 0 144 (dk_at dksX3_moves_3 0 rfl rfl)
theorem dX3_moves_74 : decode cX3_moves 74 = .ok (.aload_n 1, 1) := dk_43 (dk_at dksX3_moves_3 3 rfl rfl)
theorem dX3_moves_75 : decode cX3_moves 75 = .ok (.aload_n 0, 1) := dk_42 (dk_at dksX3_moves_3 4 rfl rfl)
theorem dX3_moves_76 : decode cX3_moves 76 = .ok (.getfield 51, 3) := dk_180 0 51 (dk_at dksX3_moves_3 5 rfl rfl)
theorem dX3_moves_79 : decode cX3_moves 79 = .ok (.putfield 134, 3) := dk_181 0 134 (dk_at dksX3_moves_3 8 rfl rfl)
theorem dX3_moves_82 : decode cX3_moves 82 = .ok (.aload_n 1, 1) := dk_43 (dk_at dksX3_moves_3 11 rfl rfl)
theorem dX3_moves_83 : decode cX3_moves 83 = .ok (.dup, 1) := dk_89 (dk_at dksX3_moves_3 12 rfl rfl)
theorem dX3_moves_84 : decode cX3_moves 84 = .ok (.getfield 147, 3) := dk_180 0 147 (dk_at dksX3_moves_3 13 rfl rfl)
theorem dX3_moves_87 : decode cX3_moves 87 = .ok (.iconst 1, 1) := dk_4 (dk_at dksX3_moves_3 16 rfl rfl)
theorem dX3_moves_88 : decode cX3_moves 88 = .ok (.iadd, 1) := dk_96 (dk_at dksX3_moves_3 17 rfl rfl)
theorem dX3_moves_89 : decode cX3_moves 89 = .ok (.putfield 147, 3) := dk_181 0 147 (dk_at dksX3_moves_3 18 rfl rfl)
theorem dX3_moves_92 : decode cX3_moves 92 = .ok (.aload_n 0, 1) := dk_42 (dk_at dksX3_moves_3 21 rfl rfl)
theorem dX3_moves_93 : decode cX3_moves 93 = .ok (.aload_n 0, 1) := dk_42 (dk_at dksX3_moves_3 22 rfl rfl)
theorem dX3_moves_94 : decode cX3_moves 94 = .ok (.invokevirtual 131, 3) := dk_182 0 131 (dk_at dksX3_moves_4 0 rfl rfl)
theorem dX3_moves_97 : decode cX3_moves 97 = .ok (.putfield 57, 3) := dk_181 0 57 (dk_at dksX3_moves_4 3 rfl rfl)
theorem dX3_moves_100 : decode cX3_moves 100 = .ok (.aload_n 0, 1) := dk_42 (dk_at dksX3_moves_4 6 rfl rfl)
theorem dX3_moves_101 : decode cX3_moves 101 = .ok (.dup, 1) := dk_89 (dk_at dksX3_moves_4 7 rfl rfl)
theorem dX3_moves_102 : decode cX3_moves 102 = .ok (.getfield 54, 3) := dk_180 0 54 (dk_at dksX3_moves_4 8 rfl rfl)
theorem dX3_moves_105 : decode cX3_moves 105 = .ok (.iconst 1, 1) := dk_4 (dk_at dksX3_moves_4 11 rfl rfl)
theorem dX3_moves_106 : decode cX3_moves 106 = .ok (.iadd, 1) := dk_96 (dk_at dksX3_moves_4 12 rfl rfl)
theorem dX3_moves_107 : decode cX3_moves 107 = .ok (.putfield 54, 3) := dk_181 0 54 (dk_at dksX3_moves_4 13 rfl rfl)
theorem dX3_moves_110 : decode cX3_moves 110 = .ok (.aload_n 0, 1) := dk_42 (dk_at dksX3_moves_4 16 rfl rfl)
theorem dX3_moves_111 : decode cX3_moves 111 = .ok (.invokevirtual 150, 3) := dk_182 0 150 (dk_at dksX3_moves_4 17 rfl rfl)
theorem dX3_moves_114 : decode cX3_moves 114 = .ok (.ireturn, 1) := dk_172 (dk_at dksX3_moves_4 20 rfl rfl)
abbrev cX3_opens : ByteArray := prog_13_method_20_code
def yX3_opens : MethodName := ⟨RX3, "opens", "()I"⟩
def dkwX3_opens_3 : List UInt8 := [180, 0, 54, 181, 0, 126, 132, 1, 1, 132, 4, 1, 167, 255, 192, 27, 172]
abbrev dktX3_opens_3 : List UInt8 := dkwX3_opens_3 ++ []
def dkwX3_opens_2 : List UInt8 := [154, 0, 33, 42, 180, 0, 34, 25, 5, 180, 0, 120, 182, 0, 123, 153, 0, 18, 25, 5, 192, 0, 76, 42]
abbrev dktX3_opens_2 : List UInt8 := dkwX3_opens_2 ++ dktX3_opens_3
def dkwX3_opens_1 : List UInt8 := [44, 21, 4, 50, 58, 5, 25, 5, 193, 0, 76, 153, 0, 44, 25, 5, 192, 0, 76, 182, 0, 93]
abbrev dktX3_opens_1 : List UInt8 := dkwX3_opens_1 ++ dktX3_opens_2
def dkwX3_opens_0 : List UInt8 := [42, 182, 0, 117, 87, 3, 60, 42, 180, 0, 9, 77, 44, 190, 62, 3, 54, 4, 21, 4, 29, 162, 0, 64]
abbrev dktX3_opens_0 : List UInt8 := dkwX3_opens_0 ++ dktX3_opens_1
theorem dksX3_opens_0 : cX3_opens.data.toList.drop 0 = dktX3_opens_0 := by decide +kernel
theorem dksX3_opens_1 : cX3_opens.data.toList.drop 24 = dktX3_opens_1 := dk_seg dksX3_opens_0 24 rfl rfl
theorem dksX3_opens_2 : cX3_opens.data.toList.drop 46 = dktX3_opens_2 := dk_seg dksX3_opens_1 22 rfl rfl
theorem dksX3_opens_3 : cX3_opens.data.toList.drop 70 = dktX3_opens_3 := dk_seg dksX3_opens_2 24 rfl rfl
theorem dX3_opens_0 : decode cX3_opens 0 = .ok (.aload_n 0, 1) := dk_42 (dk_at dksX3_opens_0 0 rfl rfl)
theorem dX3_opens_1 : decode cX3_opens 1 = .ok (.invokevirtual 117, 3) := dk_182 0 117 (dk_at dksX3_opens_0 1 rfl rfl)
theorem dX3_opens_4 : decode cX3_opens 4 = .ok (.pop, 1) := dk_87 (dk_at dksX3_opens_0 4 rfl rfl)
theorem dX3_opens_5 : decode cX3_opens 5 = .ok (.iconst 0, 1) := dk_3 (dk_at dksX3_opens_0 5 rfl rfl)
theorem dX3_opens_6 : decode cX3_opens 6 = .ok (.istore_n 1, 1) := dk_60 (dk_at dksX3_opens_0 6 rfl rfl)
theorem dX3_opens_7 : decode cX3_opens 7 = .ok (.aload_n 0, 1) := dk_42 (dk_at dksX3_opens_0 7 rfl rfl)
theorem dX3_opens_8 : decode cX3_opens 8 = .ok (.getfield 9, 3) := dk_180 0 9 (dk_at dksX3_opens_0 8 rfl rfl)
theorem dX3_opens_11 : decode cX3_opens 11 = .ok (.astore_n 2, 1) := dk_77 (dk_at dksX3_opens_0 11 rfl rfl)
theorem dX3_opens_12 : decode cX3_opens 12 = .ok (.aload_n 2, 1) := dk_44 (dk_at dksX3_opens_0 12 rfl rfl)
theorem dX3_opens_13 : decode cX3_opens 13 = .ok (.arraylength, 1) := dk_190 (dk_at dksX3_opens_0 13 rfl rfl)
theorem dX3_opens_14 : decode cX3_opens 14 = .ok (.istore_n 3, 1) := dk_62 (dk_at dksX3_opens_0 14 rfl rfl)
theorem dX3_opens_15 : decode cX3_opens 15 = .ok (.iconst 0, 1) := dk_3 (dk_at dksX3_opens_0 15 rfl rfl)
theorem dX3_opens_16 : decode cX3_opens 16 = .ok (.istore 4, 2) := dk_54 4 (dk_at dksX3_opens_0 16 rfl rfl)
theorem dX3_opens_18 : decode cX3_opens 18 = .ok (.iload 4, 2) := dk_21 4 (dk_at dksX3_opens_0 18 rfl rfl)
theorem dX3_opens_20 : decode cX3_opens 20 = .ok (.iload_n 3, 1) := dk_29 (dk_at dksX3_opens_0 20 rfl rfl)
theorem dX3_opens_21 : decode cX3_opens 21 = .ok (.if_icmp .ge 64, 3) := dk_162 0 64 (dk_at dksX3_opens_0 21 rfl rfl)
theorem dX3_opens_24 : decode cX3_opens 24 = .ok (.aload_n 2, 1) := dk_44 (dk_at dksX3_opens_1 0 rfl rfl)
theorem dX3_opens_25 : decode cX3_opens 25 = .ok (.iload 4, 2) := dk_21 4 (dk_at dksX3_opens_1 1 rfl rfl)
theorem dX3_opens_27 : decode cX3_opens 27 = .ok (.aaload, 1) := dk_50 (dk_at dksX3_opens_1 3 rfl rfl)
theorem dX3_opens_28 : decode cX3_opens 28 = .ok (.astore 5, 2) := dk_58 5 (dk_at dksX3_opens_1 4 rfl rfl)
theorem dX3_opens_30 : decode cX3_opens 30 = .ok (.aload 5, 2) := dk_25 5 (dk_at dksX3_opens_1 6 rfl rfl)
theorem dX3_opens_32 : decode cX3_opens 32 = .ok (.instanceof 76, 3) := dk_193 0 76 (dk_at dksX3_opens_1 8 rfl rfl)
theorem dX3_opens_35 : decode cX3_opens 35 = .ok (.ifCond .eq 44, 3) := dk_153 0 44 (dk_at dksX3_opens_1 11 rfl rfl)
theorem dX3_opens_38 : decode cX3_opens 38 = .ok (.aload 5, 2) := dk_25 5 (dk_at dksX3_opens_1 14 rfl rfl)
theorem dX3_opens_40 : decode cX3_opens 40 = .ok (.checkcast 76, 3) := dk_192 0 76 (dk_at dksX3_opens_1 16 rfl rfl)
theorem dX3_opens_43 : decode cX3_opens 43 = .ok (.invokevirtual 93, 3) := dk_182 0 93 (dk_at dksX3_opens_1 19 rfl rfl)
theorem dX3_opens_46 : decode cX3_opens 46 = .ok (.ifCond .ne 33, 3) := dk_154 0 33 (dk_at dksX3_opens_2 0 rfl rfl)
theorem dX3_opens_49 : decode cX3_opens 49 = .ok (.aload_n 0, 1) := dk_42 (dk_at dksX3_opens_2 3 rfl rfl)
theorem dX3_opens_50 : decode cX3_opens 50 = .ok (.getfield 34, 3) := dk_180 0 34 (dk_at dksX3_opens_2 4 rfl rfl)
theorem dX3_opens_53 : decode cX3_opens 53 = .ok (.aload 5, 2) := dk_25 5 (dk_at dksX3_opens_2 7 rfl rfl)
theorem dX3_opens_55 : decode cX3_opens 55 = .ok (.getfield 120, 3) := dk_180 0 120 (dk_at dksX3_opens_2 9 rfl rfl)
theorem dX3_opens_58 : decode cX3_opens 58 = .ok (.invokevirtual 123, 3) := dk_182 0 123 (dk_at dksX3_opens_2 12 rfl rfl)
theorem dX3_opens_61 : decode cX3_opens 61 = .ok (.ifCond .eq 18, 3) := dk_153 0 18 (dk_at dksX3_opens_2 15 rfl rfl)
theorem dX3_opens_64 : decode cX3_opens 64 = .ok (.aload 5, 2) := dk_25 5 (dk_at dksX3_opens_2 18 rfl rfl)
theorem dX3_opens_66 : decode cX3_opens 66 = .ok (.checkcast 76, 3) := dk_192 0 76 (dk_at dksX3_opens_2 20 rfl rfl)
theorem dX3_opens_69 : decode cX3_opens 69 = .ok (.aload_n 0, 1) := dk_42 (dk_at dksX3_opens_2 23 rfl rfl)
theorem dX3_opens_70 : decode cX3_opens 70 = .ok (.getfield 54, 3) := dk_180 0 54 (dk_at dksX3_opens_3 0 rfl rfl)
theorem dX3_opens_73 : decode cX3_opens 73 = .ok (.putfield 126, 3) := dk_181 0 126 (dk_at dksX3_opens_3 3 rfl rfl)
theorem dX3_opens_76 : decode cX3_opens 76 = .ok (.iinc 1 1, 3) := dk_132 1 1 (dk_at dksX3_opens_3 6 rfl rfl)
theorem dX3_opens_79 : decode cX3_opens 79 = .ok (.iinc 4 1, 3) := dk_132 4 1 (dk_at dksX3_opens_3 9 rfl rfl)
theorem dX3_opens_82 : decode cX3_opens 82 = .ok (.goto (-64), 3) := dk_167 255 192 (dk_at dksX3_opens_3 12 rfl rfl)
theorem dX3_opens_85 : decode cX3_opens 85 = .ok (.iload_n 1, 1) := dk_27 (dk_at dksX3_opens_3 15 rfl rfl)
theorem dX3_opens_86 : decode cX3_opens 86 = .ok (.ireturn, 1) := dk_172 (dk_at dksX3_opens_3 16 rfl rfl)
abbrev cX3_all : ByteArray := prog_13_method_7_code
def yX3_all : MethodName := ⟨RX3, "all", "(Z)Ljava/util/ArrayList;"⟩
def dkwX3_all_2 : List UInt8 := [25, 6, 193, 0, 76, 153, 0, 10, 44, 25, 6, 182, 0, 78, 87, 132, 5, 1, 167, 255, 210, 44, 176]
abbrev dktX3_all_2 : List UInt8 := dkwX3_all_2 ++ []
def dkwX3_all_1 : List UInt8 := [162, 0, 45, 45, 21, 5, 50, 58, 6, 27, 153, 0, 14, 25, 6, 193, 0, 74, 153, 0, 21, 167, 0, 11]
abbrev dktX3_all_1 : List UInt8 := dkwX3_all_1 ++ dktX3_all_2
def dkwX3_all_0 : List UInt8 := [187, 0, 71, 89, 183, 0, 73, 77, 42, 180, 0, 9, 78, 45, 190, 54, 4, 3, 54, 5, 21, 5, 21, 4]
abbrev dktX3_all_0 : List UInt8 := dkwX3_all_0 ++ dktX3_all_1
theorem dksX3_all_0 : cX3_all.data.toList.drop 0 = dktX3_all_0 := by decide +kernel
theorem dksX3_all_1 : cX3_all.data.toList.drop 24 = dktX3_all_1 := dk_seg dksX3_all_0 24 rfl rfl
theorem dksX3_all_2 : cX3_all.data.toList.drop 48 = dktX3_all_2 := dk_seg dksX3_all_1 24 rfl rfl
theorem dX3_all_0 : decode cX3_all 0 = .ok (.new 71, 3) := dk_187 0 71 (dk_at dksX3_all_0 0 rfl rfl)
theorem dX3_all_3 : decode cX3_all 3 = .ok (.dup, 1) := dk_89 (dk_at dksX3_all_0 3 rfl rfl)
theorem dX3_all_4 : decode cX3_all 4 = .ok (.invokespecial 73, 3) := dk_183 0 73 (dk_at dksX3_all_0 4 rfl rfl)
theorem dX3_all_7 : decode cX3_all 7 = .ok (.astore_n 2, 1) := dk_77 (dk_at dksX3_all_0 7 rfl rfl)
theorem dX3_all_8 : decode cX3_all 8 = .ok (.aload_n 0, 1) := dk_42 (dk_at dksX3_all_0 8 rfl rfl)
theorem dX3_all_9 : decode cX3_all 9 = .ok (.getfield 9, 3) := dk_180 0 9 (dk_at dksX3_all_0 9 rfl rfl)
theorem dX3_all_12 : decode cX3_all 12 = .ok (.astore_n 3, 1) := dk_78 (dk_at dksX3_all_0 12 rfl rfl)
theorem dX3_all_13 : decode cX3_all 13 = .ok (.aload_n 3, 1) := dk_45 (dk_at dksX3_all_0 13 rfl rfl)
theorem dX3_all_14 : decode cX3_all 14 = .ok (.arraylength, 1) := dk_190 (dk_at dksX3_all_0 14 rfl rfl)
theorem dX3_all_15 : decode cX3_all 15 = .ok (.istore 4, 2) := dk_54 4 (dk_at dksX3_all_0 15 rfl rfl)
theorem dX3_all_17 : decode cX3_all 17 = .ok (.iconst 0, 1) := dk_3 (dk_at dksX3_all_0 17 rfl rfl)
theorem dX3_all_18 : decode cX3_all 18 = .ok (.istore 5, 2) := dk_54 5 (dk_at dksX3_all_0 18 rfl rfl)
theorem dX3_all_20 : decode cX3_all 20 = .ok (.iload 5, 2) := dk_21 5 (dk_at dksX3_all_0 20 rfl rfl)
theorem dX3_all_22 : decode cX3_all 22 = .ok (.iload 4, 2) := dk_21 4 (dk_at dksX3_all_0 22 rfl rfl)
theorem dX3_all_24 : decode cX3_all 24 = .ok (.if_icmp .ge 45, 3) := dk_162 0 45 (dk_at dksX3_all_1 0 rfl rfl)
theorem dX3_all_27 : decode cX3_all 27 = .ok (.aload_n 3, 1) := dk_45 (dk_at dksX3_all_1 3 rfl rfl)
theorem dX3_all_28 : decode cX3_all 28 = .ok (.iload 5, 2) := dk_21 5 (dk_at dksX3_all_1 4 rfl rfl)
theorem dX3_all_30 : decode cX3_all 30 = .ok (.aaload, 1) := dk_50 (dk_at dksX3_all_1 6 rfl rfl)
theorem dX3_all_31 : decode cX3_all 31 = .ok (.astore 6, 2) := dk_58 6 (dk_at dksX3_all_1 7 rfl rfl)
theorem dX3_all_33 : decode cX3_all 33 = .ok (.iload_n 1, 1) := dk_27 (dk_at dksX3_all_1 9 rfl rfl)
theorem dX3_all_34 : decode cX3_all 34 = .ok (.ifCond .eq 14, 3) := dk_153 0 14 (dk_at dksX3_all_1 10 rfl rfl)
theorem dX3_all_37 : decode cX3_all 37 = .ok (.aload 6, 2) := dk_25 6 (dk_at dksX3_all_1 13 rfl rfl)
theorem dX3_all_39 : decode cX3_all 39 = .ok (.instanceof 74, 3) := dk_193 0 74 (dk_at dksX3_all_1 15 rfl rfl)
theorem dX3_all_42 : decode cX3_all 42 = .ok (.ifCond .eq 21, 3) := dk_153 0 21 (dk_at dksX3_all_1 18 rfl rfl)
theorem dX3_all_45 : decode cX3_all 45 = .ok (.goto 11, 3) := dk_167 0 11 (dk_at dksX3_all_1 21 rfl rfl)
theorem dX3_all_48 : decode cX3_all 48 = .ok (.aload 6, 2) := dk_25 6 (dk_at dksX3_all_2 0 rfl rfl)
theorem dX3_all_50 : decode cX3_all 50 = .ok (.instanceof 76, 3) := dk_193 0 76 (dk_at dksX3_all_2 2 rfl rfl)
theorem dX3_all_53 : decode cX3_all 53 = .ok (.ifCond .eq 10, 3) := dk_153 0 10 (dk_at dksX3_all_2 5 rfl rfl)
theorem dX3_all_56 : decode cX3_all 56 = .ok (.aload_n 2, 1) := dk_44 (dk_at dksX3_all_2 8 rfl rfl)
theorem dX3_all_57 : decode cX3_all 57 = .ok (.aload 6, 2) := dk_25 6 (dk_at dksX3_all_2 9 rfl rfl)
theorem dX3_all_59 : decode cX3_all 59 = .ok (.invokevirtual 78, 3) := dk_182 0 78 (dk_at dksX3_all_2 11 rfl rfl)
theorem dX3_all_62 : decode cX3_all 62 = .ok (.pop, 1) := dk_87 (dk_at dksX3_all_2 14 rfl rfl)
theorem dX3_all_63 : decode cX3_all 63 = .ok (.iinc 5 1, 3) := dk_132 5 1 (dk_at dksX3_all_2 15 rfl rfl)
theorem dX3_all_66 : decode cX3_all 66 = .ok (.goto (-46), 3) := dk_167 255 210 (dk_at dksX3_all_2 18 rfl rfl)
theorem dX3_all_69 : decode cX3_all 69 = .ok (.aload_n 2, 1) := dk_44 (dk_at dksX3_all_2 21 rfl rfl)
theorem dX3_all_70 : decode cX3_all 70 = .ok (.areturn, 1) := dk_176 (dk_at dksX3_all_2 22 rfl rfl)
abbrev cX3_canTurn : ByteArray := prog_13_method_18_code
def yX3_canTurn : MethodName := ⟨RX3, "canTurn", "()Z"⟩
def dkwX3_canTurn_2 : List UInt8 := [132, 3, 1, 167, 255, 218, 3, 172]
abbrev dktX3_canTurn_2 : List UInt8 := dkwX3_canTurn_2 ++ []
def dkwX3_canTurn_1 : List UInt8 := [193, 0, 74, 153, 0, 20, 25, 4, 192, 0, 74, 42, 182, 0, 131, 182, 0, 135, 153, 0, 5, 4, 172]
abbrev dktX3_canTurn_1 : List UInt8 := dkwX3_canTurn_1 ++ dktX3_canTurn_2
def dkwX3_canTurn_0 : List UInt8 := [42, 180, 0, 9, 76, 43, 190, 61, 3, 62, 29, 28, 162, 0, 39, 43, 29, 50, 58, 4, 25, 4]
abbrev dktX3_canTurn_0 : List UInt8 := dkwX3_canTurn_0 ++ dktX3_canTurn_1
theorem dksX3_canTurn_0 : cX3_canTurn.data.toList.drop 0 = dktX3_canTurn_0 := by decide +kernel
theorem dksX3_canTurn_1 : cX3_canTurn.data.toList.drop 22 = dktX3_canTurn_1 := dk_seg dksX3_canTurn_0 22 rfl rfl
theorem dksX3_canTurn_2 : cX3_canTurn.data.toList.drop 45 = dktX3_canTurn_2 := dk_seg dksX3_canTurn_1 23 rfl rfl
theorem dX3_canTurn_0 : decode cX3_canTurn 0 = .ok (.aload_n 0, 1) := dk_42 (dk_at dksX3_canTurn_0 0 rfl rfl)
theorem dX3_canTurn_1 : decode cX3_canTurn 1 = .ok (.getfield 9, 3) := dk_180 0 9 (dk_at dksX3_canTurn_0 1 rfl rfl)
theorem dX3_canTurn_4 : decode cX3_canTurn 4 = .ok (.astore_n 1, 1) := dk_76 (dk_at dksX3_canTurn_0 4 rfl rfl)
theorem dX3_canTurn_5 : decode cX3_canTurn 5 = .ok (.aload_n 1, 1) := dk_43 (dk_at dksX3_canTurn_0 5 rfl rfl)
theorem dX3_canTurn_6 : decode cX3_canTurn 6 = .ok (.arraylength, 1) := dk_190 (dk_at dksX3_canTurn_0 6 rfl rfl)
theorem dX3_canTurn_7 : decode cX3_canTurn 7 = .ok (.istore_n 2, 1) := dk_61 (dk_at dksX3_canTurn_0 7 rfl rfl)
theorem dX3_canTurn_8 : decode cX3_canTurn 8 = .ok (.iconst 0, 1) := dk_3 (dk_at dksX3_canTurn_0 8 rfl rfl)
theorem dX3_canTurn_9 : decode cX3_canTurn 9 = .ok (.istore_n 3, 1) := dk_62 (dk_at dksX3_canTurn_0 9 rfl rfl)
theorem dX3_canTurn_10 : decode cX3_canTurn 10 = .ok (.iload_n 3, 1) := dk_29 (dk_at dksX3_canTurn_0 10 rfl rfl)
theorem dX3_canTurn_11 : decode cX3_canTurn 11 = .ok (.iload_n 2, 1) := dk_28 (dk_at dksX3_canTurn_0 11 rfl rfl)
theorem dX3_canTurn_12 : decode cX3_canTurn 12 = .ok (.if_icmp .ge 39, 3) := dk_162 0 39 (dk_at dksX3_canTurn_0 12 rfl rfl)
theorem dX3_canTurn_15 : decode cX3_canTurn 15 = .ok (.aload_n 1, 1) := dk_43 (dk_at dksX3_canTurn_0 15 rfl rfl)
theorem dX3_canTurn_16 : decode cX3_canTurn 16 = .ok (.iload_n 3, 1) := dk_29 (dk_at dksX3_canTurn_0 16 rfl rfl)
theorem dX3_canTurn_17 : decode cX3_canTurn 17 = .ok (.aaload, 1) := dk_50 (dk_at dksX3_canTurn_0 17 rfl rfl)
theorem dX3_canTurn_18 : decode cX3_canTurn 18 = .ok (.astore 4, 2) := dk_58 4 (dk_at dksX3_canTurn_0 18 rfl rfl)
theorem dX3_canTurn_20 : decode cX3_canTurn 20 = .ok (.aload 4, 2) := dk_25 4 (dk_at dksX3_canTurn_0 20 rfl rfl)
theorem dX3_canTurn_22 : decode cX3_canTurn 22 = .ok (.instanceof 74, 3) := dk_193 0 74 (dk_at dksX3_canTurn_1 0 rfl rfl)
theorem dX3_canTurn_25 : decode cX3_canTurn 25 = .ok (.ifCond .eq 20, 3) := dk_153 0 20 (dk_at dksX3_canTurn_1 3 rfl rfl)
theorem dX3_canTurn_28 : decode cX3_canTurn 28 = .ok (.aload 4, 2) := dk_25 4 (dk_at dksX3_canTurn_1 6 rfl rfl)
theorem dX3_canTurn_30 : decode cX3_canTurn 30 = .ok (.checkcast 74, 3) := dk_192 0 74 (dk_at dksX3_canTurn_1 8 rfl rfl)
theorem dX3_canTurn_33 : decode cX3_canTurn 33 = .ok (.aload_n 0, 1) := dk_42 (dk_at dksX3_canTurn_1 11 rfl rfl)
theorem dX3_canTurn_34 : decode cX3_canTurn 34 = .ok (.invokevirtual 131, 3) := dk_182 0 131 (dk_at dksX3_canTurn_1 12 rfl rfl)
theorem dX3_canTurn_37 : decode cX3_canTurn 37 = .ok (.invokevirtual 135, 3) := dk_182 0 135 (dk_at dksX3_canTurn_1 15 rfl rfl)
theorem dX3_canTurn_40 : decode cX3_canTurn 40 = .ok (.ifCond .eq 5, 3) := dk_153 0 5 (dk_at dksX3_canTurn_1 18 rfl rfl)
theorem dX3_canTurn_43 : decode cX3_canTurn 43 = .ok (.iconst 1, 1) := dk_4 (dk_at dksX3_canTurn_1 21 rfl rfl)
theorem dX3_canTurn_44 : decode cX3_canTurn 44 = .ok (.ireturn, 1) := dk_172 (dk_at dksX3_canTurn_1 22 rfl rfl)
theorem dX3_canTurn_45 : decode cX3_canTurn 45 = .ok (.iinc 3 1, 3) := dk_132 3 1 (dk_at dksX3_canTurn_2 0 rfl rfl)
theorem dX3_canTurn_48 : decode cX3_canTurn 48 = .ok (.goto (-38), 3) := dk_167 255 218 (dk_at dksX3_canTurn_2 3 rfl rfl)
theorem dX3_canTurn_51 : decode cX3_canTurn 51 = .ok (.iconst 0, 1) := dk_3 (dk_at dksX3_canTurn_2 6 rfl rfl)
theorem dX3_canTurn_52 : decode cX3_canTurn 52 = .ok (.ireturn, 1) := dk_172 (dk_at dksX3_canTurn_2 7 rfl rfl)
abbrev cX3_init_3 : ByteArray := prog_13_method_3_code
def yX3_init_3 : MethodName := ⟨RX3, "<init>", "(LMirrorDoors$World;)V"⟩
def dkwX3_init_3_3 : List UInt8 := [180, 0, 54, 181, 0, 54, 42, 43, 180, 0, 57, 181, 0, 57, 177]
abbrev dktX3_init_3_3 : List UInt8 := dkwX3_init_3_3 ++ []
def dkwX3_init_3_2 : List UInt8 := [132, 2, 1, 167, 255, 229, 42, 43, 180, 0, 51, 181, 0, 51, 42, 43, 180, 0, 30, 181, 0, 30, 42, 43]
abbrev dktX3_init_3_2 : List UInt8 := dkwX3_init_3_2 ++ dktX3_init_3_3
def dkwX3_init_3_1 : List UInt8 := [180, 0, 9, 190, 162, 0, 24, 42, 180, 0, 9, 28, 43, 180, 0, 9, 28, 50, 182, 0, 47, 83]
abbrev dktX3_init_3_1 : List UInt8 := dkwX3_init_3_1 ++ dktX3_init_3_2
def dkwX3_init_3_0 : List UInt8 := [42, 43, 180, 0, 34, 43, 180, 0, 38, 43, 180, 0, 41, 43, 180, 0, 44, 183, 0, 3, 3, 61, 28, 42]
abbrev dktX3_init_3_0 : List UInt8 := dkwX3_init_3_0 ++ dktX3_init_3_1
theorem dksX3_init_3_0 : cX3_init_3.data.toList.drop 0 = dktX3_init_3_0 := by decide +kernel
theorem dksX3_init_3_1 : cX3_init_3.data.toList.drop 24 = dktX3_init_3_1 := dk_seg dksX3_init_3_0 24 rfl rfl
theorem dksX3_init_3_2 : cX3_init_3.data.toList.drop 46 = dktX3_init_3_2 := dk_seg dksX3_init_3_1 22 rfl rfl
theorem dksX3_init_3_3 : cX3_init_3.data.toList.drop 70 = dktX3_init_3_3 := dk_seg dksX3_init_3_2 24 rfl rfl
theorem dX3_init_3_0 : decode cX3_init_3 0 = .ok (.aload_n 0, 1) := dk_42 (dk_at dksX3_init_3_0 0 rfl rfl)
theorem dX3_init_3_1 : decode cX3_init_3 1 = .ok (.aload_n 1, 1) := dk_43 (dk_at dksX3_init_3_0 1 rfl rfl)
theorem dX3_init_3_2 : decode cX3_init_3 2 = .ok (.getfield 34, 3) := dk_180 0 34 (dk_at dksX3_init_3_0 2 rfl rfl)
theorem dX3_init_3_5 : decode cX3_init_3 5 = .ok (.aload_n 1, 1) := dk_43 (dk_at dksX3_init_3_0 5 rfl rfl)
theorem dX3_init_3_6 : decode cX3_init_3 6 = .ok (.getfield 38, 3) := dk_180 0 38 (dk_at dksX3_init_3_0 6 rfl rfl)
theorem dX3_init_3_9 : decode cX3_init_3 9 = .ok (.aload_n 1, 1) := dk_43 (dk_at dksX3_init_3_0 9 rfl rfl)
theorem dX3_init_3_10 : decode cX3_init_3 10 = .ok (.getfield 41, 3) := dk_180 0 41 (dk_at dksX3_init_3_0 10 rfl rfl)
theorem dX3_init_3_13 : decode cX3_init_3 13 = .ok (.aload_n 1, 1) := dk_43 (dk_at dksX3_init_3_0 13 rfl rfl)
theorem dX3_init_3_14 : decode cX3_init_3 14 = .ok (.getfield 44, 3) := dk_180 0 44 (dk_at dksX3_init_3_0 14 rfl rfl)
theorem dX3_init_3_17 : decode cX3_init_3 17 = .ok (.invokespecial 3, 3) := dk_183 0 3 (dk_at dksX3_init_3_0 17 rfl rfl)
theorem dX3_init_3_20 : decode cX3_init_3 20 = .ok (.iconst 0, 1) := dk_3 (dk_at dksX3_init_3_0 20 rfl rfl)
theorem dX3_init_3_21 : decode cX3_init_3 21 = .ok (.istore_n 2, 1) := dk_61 (dk_at dksX3_init_3_0 21 rfl rfl)
theorem dX3_init_3_22 : decode cX3_init_3 22 = .ok (.iload_n 2, 1) := dk_28 (dk_at dksX3_init_3_0 22 rfl rfl)
theorem dX3_init_3_23 : decode cX3_init_3 23 = .ok (.aload_n 0, 1) := dk_42 (dk_at dksX3_init_3_0 23 rfl rfl)
theorem dX3_init_3_24 : decode cX3_init_3 24 = .ok (.getfield 9, 3) := dk_180 0 9 (dk_at dksX3_init_3_1 0 rfl rfl)
theorem dX3_init_3_27 : decode cX3_init_3 27 = .ok (.arraylength, 1) := dk_190 (dk_at dksX3_init_3_1 3 rfl rfl)
theorem dX3_init_3_28 : decode cX3_init_3 28 = .ok (.if_icmp .ge 24, 3) := dk_162 0 24 (dk_at dksX3_init_3_1 4 rfl rfl)
theorem dX3_init_3_31 : decode cX3_init_3 31 = .ok (.aload_n 0, 1) := dk_42 (dk_at dksX3_init_3_1 7 rfl rfl)
theorem dX3_init_3_32 : decode cX3_init_3 32 = .ok (.getfield 9, 3) := dk_180 0 9 (dk_at dksX3_init_3_1 8 rfl rfl)
theorem dX3_init_3_35 : decode cX3_init_3 35 = .ok (.iload_n 2, 1) := dk_28 (dk_at dksX3_init_3_1 11 rfl rfl)
theorem dX3_init_3_36 : decode cX3_init_3 36 = .ok (.aload_n 1, 1) := dk_43 (dk_at dksX3_init_3_1 12 rfl rfl)
theorem dX3_init_3_37 : decode cX3_init_3 37 = .ok (.getfield 9, 3) := dk_180 0 9 (dk_at dksX3_init_3_1 13 rfl rfl)
theorem dX3_init_3_40 : decode cX3_init_3 40 = .ok (.iload_n 2, 1) := dk_28 (dk_at dksX3_init_3_1 16 rfl rfl)
theorem dX3_init_3_41 : decode cX3_init_3 41 = .ok (.aaload, 1) := dk_50 (dk_at dksX3_init_3_1 17 rfl rfl)
theorem dX3_init_3_42 : decode cX3_init_3 42 = .ok (.invokevirtual 47, 3) := dk_182 0 47 (dk_at dksX3_init_3_1 18 rfl rfl)
theorem dX3_init_3_45 : decode cX3_init_3 45 = .ok (.aastore, 1) := dk_83 (dk_at dksX3_init_3_1 21 rfl rfl)
theorem dX3_init_3_46 : decode cX3_init_3 46 = .ok (.iinc 2 1, 3) := dk_132 2 1 (dk_at dksX3_init_3_2 0 rfl rfl)
theorem dX3_init_3_49 : decode cX3_init_3 49 = .ok (.goto (-27), 3) := dk_167 255 229 (dk_at dksX3_init_3_2 3 rfl rfl)
theorem dX3_init_3_52 : decode cX3_init_3 52 = .ok (.aload_n 0, 1) := dk_42 (dk_at dksX3_init_3_2 6 rfl rfl)
theorem dX3_init_3_53 : decode cX3_init_3 53 = .ok (.aload_n 1, 1) := dk_43 (dk_at dksX3_init_3_2 7 rfl rfl)
theorem dX3_init_3_54 : decode cX3_init_3 54 = .ok (.getfield 51, 3) := dk_180 0 51 (dk_at dksX3_init_3_2 8 rfl rfl)
theorem dX3_init_3_57 : decode cX3_init_3 57 = .ok (.putfield 51, 3) := dk_181 0 51 (dk_at dksX3_init_3_2 11 rfl rfl)
theorem dX3_init_3_60 : decode cX3_init_3 60 = .ok (.aload_n 0, 1) := dk_42 (dk_at dksX3_init_3_2 14 rfl rfl)
theorem dX3_init_3_61 : decode cX3_init_3 61 = .ok (.aload_n 1, 1) := dk_43 (dk_at dksX3_init_3_2 15 rfl rfl)
theorem dX3_init_3_62 : decode cX3_init_3 62 = .ok (.getfield 30, 3) := dk_180 0 30 (dk_at dksX3_init_3_2 16 rfl rfl)
theorem dX3_init_3_65 : decode cX3_init_3 65 = .ok (.putfield 30, 3) := dk_181 0 30 (dk_at dksX3_init_3_2 19 rfl rfl)
theorem dX3_init_3_68 : decode cX3_init_3 68 = .ok (.aload_n 0, 1) := dk_42 (dk_at dksX3_init_3_2 22 rfl rfl)
theorem dX3_init_3_69 : decode cX3_init_3 69 = .ok (.aload_n 1, 1) := dk_43 (dk_at dksX3_init_3_2 23 rfl rfl)
theorem dX3_init_3_70 : decode cX3_init_3 70 = .ok (.getfield 54, 3) := dk_180 0 54 (dk_at dksX3_init_3_3 0 rfl rfl)
theorem dX3_init_3_73 : decode cX3_init_3 73 = .ok (.putfield 54, 3) := dk_181 0 54 (dk_at dksX3_init_3_3 3 rfl rfl)
theorem dX3_init_3_76 : decode cX3_init_3 76 = .ok (.aload_n 0, 1) := dk_42 (dk_at dksX3_init_3_3 6 rfl rfl)
theorem dX3_init_3_77 : decode cX3_init_3 77 = .ok (.aload_n 1, 1) := dk_43 (dk_at dksX3_init_3_3 7 rfl rfl)
theorem dX3_init_3_78 : decode cX3_init_3 78 = .ok (.getfield 57, 3) := dk_180 0 57 (dk_at dksX3_init_3_3 8 rfl rfl)
theorem dX3_init_3_81 : decode cX3_init_3 81 = .ok (.putfield 57, 3) := dk_181 0 57 (dk_at dksX3_init_3_3 11 rfl rfl)
theorem dX3_init_3_84 : decode cX3_init_3 84 = .ok (.return_, 1) := dk_177 (dk_at dksX3_init_3_3 14 rfl rfl)
abbrev cX3_numberOf : ByteArray := prog_13_method_8_code
def yX3_numberOf : MethodName := ⟨RX3, "numberOf", "(LMirrorDoors$Cell;)I"⟩
def dkwX3_numberOf_0 : List UInt8 := [42, 43, 193, 0, 74, 182, 0, 82, 43, 182, 0, 86, 172]
abbrev dktX3_numberOf_0 : List UInt8 := dkwX3_numberOf_0 ++ []
theorem dksX3_numberOf_0 : cX3_numberOf.data.toList.drop 0 = dktX3_numberOf_0 := by decide +kernel
theorem dX3_numberOf_0 : decode cX3_numberOf 0 = .ok (.aload_n 0, 1) := dk_42 (dk_at dksX3_numberOf_0 0 rfl rfl)
theorem dX3_numberOf_1 : decode cX3_numberOf 1 = .ok (.aload_n 1, 1) := dk_43 (dk_at dksX3_numberOf_0 1 rfl rfl)
theorem dX3_numberOf_2 : decode cX3_numberOf 2 = .ok (.instanceof 74, 3) := dk_193 0 74 (dk_at dksX3_numberOf_0 2 rfl rfl)
theorem dX3_numberOf_5 : decode cX3_numberOf 5 = .ok (.invokevirtual 82, 3) := dk_182 0 82 (dk_at dksX3_numberOf_0 5 rfl rfl)
theorem dX3_numberOf_8 : decode cX3_numberOf 8 = .ok (.aload_n 1, 1) := dk_43 (dk_at dksX3_numberOf_0 8 rfl rfl)
theorem dX3_numberOf_9 : decode cX3_numberOf 9 = .ok (.invokevirtual 86, 3) := dk_182 0 86 (dk_at dksX3_numberOf_0 9 rfl rfl)
theorem dX3_numberOf_12 : decode cX3_numberOf 12 = .ok (.ireturn, 1) := dk_172 (dk_at dksX3_numberOf_0 12 rfl rfl)
abbrev cX3_winner : ByteArray := prog_13_method_14_code
def yX3_winner : MethodName := ⟨RX3, "winner", "()I"⟩
def dkwX3_winner_4 : List UInt8 := [158, 0, 7, 4, 167, 0, 4, 5, 172]
abbrev dktX3_winner_4 : List UInt8 := dkwX3_winner_4 ++ []
def dkwX3_winner_3 : List UInt8 := [172, 42, 4, 182, 0, 101, 42, 5, 182, 0, 101, 100, 60, 27, 154, 0, 7, 3, 167, 0, 12, 27]
abbrev dktX3_winner_3 : List UInt8 := dkwX3_winner_3 ++ dktX3_winner_4
def dkwX3_winner_2 : List UInt8 := [154, 0, 11, 42, 5, 182, 0, 104, 153, 0, 17, 42, 4, 182, 0, 104, 153, 0, 7, 4, 167, 0, 4, 5]
abbrev dktX3_winner_2 : List UInt8 := dkwX3_winner_2 ++ dktX3_winner_3
def dkwX3_winner_1 : List UInt8 := [153, 0, 19, 42, 180, 0, 57, 154, 0, 7, 4, 167, 0, 7, 42, 180, 0, 57, 172, 42, 4, 182, 0, 104]
abbrev dktX3_winner_1 : List UInt8 := dkwX3_winner_1 ++ dktX3_winner_2
def dkwX3_winner_0 : List UInt8 := [42, 182, 0, 108, 154, 0, 5, 3, 172, 42, 4, 182, 0, 104, 153, 0, 27, 42, 5, 182, 0, 104]
abbrev dktX3_winner_0 : List UInt8 := dkwX3_winner_0 ++ dktX3_winner_1
theorem dksX3_winner_0 : cX3_winner.data.toList.drop 0 = dktX3_winner_0 := by decide +kernel
theorem dksX3_winner_1 : cX3_winner.data.toList.drop 22 = dktX3_winner_1 := dk_seg dksX3_winner_0 22 rfl rfl
theorem dksX3_winner_2 : cX3_winner.data.toList.drop 46 = dktX3_winner_2 := dk_seg dksX3_winner_1 24 rfl rfl
theorem dksX3_winner_3 : cX3_winner.data.toList.drop 70 = dktX3_winner_3 := dk_seg dksX3_winner_2 24 rfl rfl
theorem dksX3_winner_4 : cX3_winner.data.toList.drop 92 = dktX3_winner_4 := dk_seg dksX3_winner_3 22 rfl rfl
theorem dX3_winner_0 : decode cX3_winner 0 = .ok (.aload_n 0, 1) := dk_42 (dk_at dksX3_winner_0 0 rfl rfl)
theorem dX3_winner_1 : decode cX3_winner 1 = .ok (.invokevirtual 108, 3) := dk_182 0 108 (dk_at dksX3_winner_0 1 rfl rfl)
theorem dX3_winner_4 : decode cX3_winner 4 = .ok (.ifCond .ne 5, 3) := dk_154 0 5 (dk_at dksX3_winner_0 4 rfl rfl)
theorem dX3_winner_7 : decode cX3_winner 7 = .ok (.iconst 0, 1) := dk_3 (dk_at dksX3_winner_0 7 rfl rfl)
theorem dX3_winner_8 : decode cX3_winner 8 = .ok (.ireturn, 1) := dk_172 (dk_at dksX3_winner_0 8 rfl rfl)
theorem dX3_winner_9 : decode cX3_winner 9 = .ok (.aload_n 0, 1) := dk_42 (dk_at dksX3_winner_0 9 rfl rfl)
theorem dX3_winner_10 : decode cX3_winner 10 = .ok (.iconst 1, 1) := dk_4 (dk_at dksX3_winner_0 10 rfl rfl)
theorem dX3_winner_11 : decode cX3_winner 11 = .ok (.invokevirtual 104, 3) := dk_182 0 104 (dk_at dksX3_winner_0 11 rfl rfl)
theorem dX3_winner_14 : decode cX3_winner 14 = .ok (.ifCond .eq 27, 3) := dk_153 0 27 (dk_at dksX3_winner_0 14 rfl rfl)
theorem dX3_winner_17 : decode cX3_winner 17 = .ok (.aload_n 0, 1) := dk_42 (dk_at dksX3_winner_0 17 rfl rfl)
theorem dX3_winner_18 : decode cX3_winner 18 = .ok (.iconst 2, 1) := dk_5 (dk_at dksX3_winner_0 18 rfl rfl)
theorem dX3_winner_19 : decode cX3_winner 19 = .ok (.invokevirtual 104, 3) := dk_182 0 104 (dk_at dksX3_winner_0 19 rfl rfl)
theorem dX3_winner_22 : decode cX3_winner 22 = .ok (.ifCond .eq 19, 3) := dk_153 0 19 (dk_at dksX3_winner_1 0 rfl rfl)
theorem dX3_winner_25 : decode cX3_winner 25 = .ok (.aload_n 0, 1) := dk_42 (dk_at dksX3_winner_1 3 rfl rfl)
theorem dX3_winner_26 : decode cX3_winner 26 = .ok (.getfield 57, 3) := dk_180 0 57 (dk_at dksX3_winner_1 4 rfl rfl)
theorem dX3_winner_29 : decode cX3_winner 29 = .ok (.ifCond .ne 7, 3) := dk_154 0 7 (dk_at dksX3_winner_1 7 rfl rfl)
theorem dX3_winner_32 : decode cX3_winner 32 = .ok (.iconst 1, 1) := dk_4 (dk_at dksX3_winner_1 10 rfl rfl)
theorem dX3_winner_33 : decode cX3_winner 33 = .ok (.goto 7, 3) := dk_167 0 7 (dk_at dksX3_winner_1 11 rfl rfl)
theorem dX3_winner_36 : decode cX3_winner 36 = .ok (.aload_n 0, 1) := dk_42 (dk_at dksX3_winner_1 14 rfl rfl)
theorem dX3_winner_37 : decode cX3_winner 37 = .ok (.getfield 57, 3) := dk_180 0 57 (dk_at dksX3_winner_1 15 rfl rfl)
theorem dX3_winner_40 : decode cX3_winner 40 = .ok (.ireturn, 1) := dk_172 (dk_at dksX3_winner_1 18 rfl rfl)
theorem dX3_winner_41 : decode cX3_winner 41 = .ok (.aload_n 0, 1) := dk_42 (dk_at dksX3_winner_1 19 rfl rfl)
theorem dX3_winner_42 : decode cX3_winner 42 = .ok (.iconst 1, 1) := dk_4 (dk_at dksX3_winner_1 20 rfl rfl)
theorem dX3_winner_43 : decode cX3_winner 43 = .ok (.invokevirtual 104, 3) := dk_182 0 104 (dk_at dksX3_winner_1 21 rfl rfl)
theorem dX3_winner_46 : decode cX3_winner 46 = .ok (.ifCond .ne 11, 3) := dk_154 0 11 (dk_at dksX3_winner_2 0 rfl rfl)
theorem dX3_winner_49 : decode cX3_winner 49 = .ok (.aload_n 0, 1) := dk_42 (dk_at dksX3_winner_2 3 rfl rfl)
theorem dX3_winner_50 : decode cX3_winner 50 = .ok (.iconst 2, 1) := dk_5 (dk_at dksX3_winner_2 4 rfl rfl)
theorem dX3_winner_51 : decode cX3_winner 51 = .ok (.invokevirtual 104, 3) := dk_182 0 104 (dk_at dksX3_winner_2 5 rfl rfl)
theorem dX3_winner_54 : decode cX3_winner 54 = .ok (.ifCond .eq 17, 3) := dk_153 0 17 (dk_at dksX3_winner_2 8 rfl rfl)
theorem dX3_winner_57 : decode cX3_winner 57 = .ok (.aload_n 0, 1) := dk_42 (dk_at dksX3_winner_2 11 rfl rfl)
theorem dX3_winner_58 : decode cX3_winner 58 = .ok (.iconst 1, 1) := dk_4 (dk_at dksX3_winner_2 12 rfl rfl)
theorem dX3_winner_59 : decode cX3_winner 59 = .ok (.invokevirtual 104, 3) := dk_182 0 104 (dk_at dksX3_winner_2 13 rfl rfl)
theorem dX3_winner_62 : decode cX3_winner 62 = .ok (.ifCond .eq 7, 3) := dk_153 0 7 (dk_at dksX3_winner_2 16 rfl rfl)
theorem dX3_winner_65 : decode cX3_winner 65 = .ok (.iconst 1, 1) := dk_4 (dk_at dksX3_winner_2 19 rfl rfl)
theorem dX3_winner_66 : decode cX3_winner 66 = .ok (.goto 4, 3) := dk_167 0 4 (dk_at dksX3_winner_2 20 rfl rfl)
theorem dX3_winner_69 : decode cX3_winner 69 = .ok (.iconst 2, 1) := dk_5 (dk_at dksX3_winner_2 23 rfl rfl)
theorem dX3_winner_70 : decode cX3_winner 70 = .ok (.ireturn, 1) := dk_172 (dk_at dksX3_winner_3 0 rfl rfl)
theorem dX3_winner_71 : decode cX3_winner 71 = .ok (.aload_n 0, 1) := dk_42 (dk_at dksX3_winner_3 1 rfl rfl)
theorem dX3_winner_72 : decode cX3_winner 72 = .ok (.iconst 1, 1) := dk_4 (dk_at dksX3_winner_3 2 rfl rfl)
theorem dX3_winner_73 : decode cX3_winner 73 = .ok (.invokevirtual 101, 3) := dk_182 0 101 (dk_at dksX3_winner_3 3 rfl rfl)
theorem dX3_winner_76 : decode cX3_winner 76 = .ok (.aload_n 0, 1) := dk_42 (dk_at dksX3_winner_3 6 rfl rfl)
theorem dX3_winner_77 : decode cX3_winner 77 = .ok (.iconst 2, 1) := dk_5 (dk_at dksX3_winner_3 7 rfl rfl)
theorem dX3_winner_78 : decode cX3_winner 78 = .ok (.invokevirtual 101, 3) := dk_182 0 101 (dk_at dksX3_winner_3 8 rfl rfl)
theorem dX3_winner_81 : decode cX3_winner 81 = .ok (.isub, 1) := dk_100 (dk_at dksX3_winner_3 11 rfl rfl)
theorem dX3_winner_82 : decode cX3_winner 82 = .ok (.istore_n 1, 1) := dk_60 (dk_at dksX3_winner_3 12 rfl rfl)
theorem dX3_winner_83 : decode cX3_winner 83 = .ok (.iload_n 1, 1) := dk_27 (dk_at dksX3_winner_3 13 rfl rfl)
theorem dX3_winner_84 : decode cX3_winner 84 = .ok (.ifCond .ne 7, 3) := dk_154 0 7 (dk_at dksX3_winner_3 14 rfl rfl)
theorem dX3_winner_87 : decode cX3_winner 87 = .ok (.iconst 0, 1) := dk_3 (dk_at dksX3_winner_3 17 rfl rfl)
theorem dX3_winner_88 : decode cX3_winner 88 = .ok (.goto 12, 3) := dk_167 0 12 (dk_at dksX3_winner_3 18 rfl rfl)
theorem dX3_winner_91 : decode cX3_winner 91 = .ok (.iload_n 1, 1) := dk_27 (dk_at dksX3_winner_3 21 rfl rfl)
theorem dX3_winner_92 : decode cX3_winner 92 = .ok (.ifCond .le 7, 3) := dk_158 0 7 (dk_at dksX3_winner_4 0 rfl rfl)
theorem dX3_winner_95 : decode cX3_winner 95 = .ok (.iconst 1, 1) := dk_4 (dk_at dksX3_winner_4 3 rfl rfl)
theorem dX3_winner_96 : decode cX3_winner 96 = .ok (.goto 4, 3) := dk_167 0 4 (dk_at dksX3_winner_4 4 rfl rfl)
theorem dX3_winner_99 : decode cX3_winner 99 = .ok (.iconst 2, 1) := dk_5 (dk_at dksX3_winner_4 7 rfl rfl)
theorem dX3_winner_100 : decode cX3_winner 100 = .ok (.ireturn, 1) := dk_172 (dk_at dksX3_winner_4 8 rfl rfl)
abbrev cX3_hits : ByteArray := prog_13_method_21_code
def yX3_hits : MethodName := ⟨RX3, "hits", "()I"⟩
def dkwX3_hits_3 : List UInt8 := [132, 5, 1, 167, 255, 204, 27, 172]
abbrev dktX3_hits_3 : List UInt8 := dkwX3_hits_3 ++ []
def dkwX3_hits_2 : List UInt8 := [25, 6, 180, 0, 120, 182, 0, 123, 154, 0, 7, 3, 167, 0, 6, 4, 28, 120, 128, 60, 132, 2, 1]
abbrev dktX3_hits_2 : List UInt8 := dkwX3_hits_2 ++ dktX3_hits_3
def dkwX3_hits_1 : List UInt8 := [21, 4, 162, 0, 51, 45, 21, 5, 50, 58, 6, 25, 6, 193, 0, 76, 153, 0, 31, 27, 42, 180, 0, 34]
abbrev dktX3_hits_1 : List UInt8 := dkwX3_hits_1 ++ dktX3_hits_2
def dkwX3_hits_0 : List UInt8 := [42, 182, 0, 117, 87, 3, 60, 3, 61, 42, 180, 0, 9, 78, 45, 190, 54, 4, 3, 54, 5, 21, 5]
abbrev dktX3_hits_0 : List UInt8 := dkwX3_hits_0 ++ dktX3_hits_1
theorem dksX3_hits_0 : cX3_hits.data.toList.drop 0 = dktX3_hits_0 := by decide +kernel
theorem dksX3_hits_1 : cX3_hits.data.toList.drop 23 = dktX3_hits_1 := dk_seg dksX3_hits_0 23 rfl rfl
theorem dksX3_hits_2 : cX3_hits.data.toList.drop 47 = dktX3_hits_2 := dk_seg dksX3_hits_1 24 rfl rfl
theorem dksX3_hits_3 : cX3_hits.data.toList.drop 70 = dktX3_hits_3 := dk_seg dksX3_hits_2 23 rfl rfl
theorem dX3_hits_0 : decode cX3_hits 0 = .ok (.aload_n 0, 1) := dk_42 (dk_at dksX3_hits_0 0 rfl rfl)
theorem dX3_hits_1 : decode cX3_hits 1 = .ok (.invokevirtual 117, 3) := dk_182 0 117 (dk_at dksX3_hits_0 1 rfl rfl)
theorem dX3_hits_4 : decode cX3_hits 4 = .ok (.pop, 1) := dk_87 (dk_at dksX3_hits_0 4 rfl rfl)
theorem dX3_hits_5 : decode cX3_hits 5 = .ok (.iconst 0, 1) := dk_3 (dk_at dksX3_hits_0 5 rfl rfl)
theorem dX3_hits_6 : decode cX3_hits 6 = .ok (.istore_n 1, 1) := dk_60 (dk_at dksX3_hits_0 6 rfl rfl)
theorem dX3_hits_7 : decode cX3_hits 7 = .ok (.iconst 0, 1) := dk_3 (dk_at dksX3_hits_0 7 rfl rfl)
theorem dX3_hits_8 : decode cX3_hits 8 = .ok (.istore_n 2, 1) := dk_61 (dk_at dksX3_hits_0 8 rfl rfl)
theorem dX3_hits_9 : decode cX3_hits 9 = .ok (.aload_n 0, 1) := dk_42 (dk_at dksX3_hits_0 9 rfl rfl)
theorem dX3_hits_10 : decode cX3_hits 10 = .ok (.getfield 9, 3) := dk_180 0 9 (dk_at dksX3_hits_0 10 rfl rfl)
theorem dX3_hits_13 : decode cX3_hits 13 = .ok (.astore_n 3, 1) := dk_78 (dk_at dksX3_hits_0 13 rfl rfl)
theorem dX3_hits_14 : decode cX3_hits 14 = .ok (.aload_n 3, 1) := dk_45 (dk_at dksX3_hits_0 14 rfl rfl)
theorem dX3_hits_15 : decode cX3_hits 15 = .ok (.arraylength, 1) := dk_190 (dk_at dksX3_hits_0 15 rfl rfl)
theorem dX3_hits_16 : decode cX3_hits 16 = .ok (.istore 4, 2) := dk_54 4 (dk_at dksX3_hits_0 16 rfl rfl)
theorem dX3_hits_18 : decode cX3_hits 18 = .ok (.iconst 0, 1) := dk_3 (dk_at dksX3_hits_0 18 rfl rfl)
theorem dX3_hits_19 : decode cX3_hits 19 = .ok (.istore 5, 2) := dk_54 5 (dk_at dksX3_hits_0 19 rfl rfl)
theorem dX3_hits_21 : decode cX3_hits 21 = .ok (.iload 5, 2) := dk_21 5 (dk_at dksX3_hits_0 21 rfl rfl)
theorem dX3_hits_23 : decode cX3_hits 23 = .ok (.iload 4, 2) := dk_21 4 (dk_at dksX3_hits_1 0 rfl rfl)
theorem dX3_hits_25 : decode cX3_hits 25 = .ok (.if_icmp .ge 51, 3) := dk_162 0 51 (dk_at dksX3_hits_1 2 rfl rfl)
theorem dX3_hits_28 : decode cX3_hits 28 = .ok (.aload_n 3, 1) := dk_45 (dk_at dksX3_hits_1 5 rfl rfl)
theorem dX3_hits_29 : decode cX3_hits 29 = .ok (.iload 5, 2) := dk_21 5 (dk_at dksX3_hits_1 6 rfl rfl)
theorem dX3_hits_31 : decode cX3_hits 31 = .ok (.aaload, 1) := dk_50 (dk_at dksX3_hits_1 8 rfl rfl)
theorem dX3_hits_32 : decode cX3_hits 32 = .ok (.astore 6, 2) := dk_58 6 (dk_at dksX3_hits_1 9 rfl rfl)
theorem dX3_hits_34 : decode cX3_hits 34 = .ok (.aload 6, 2) := dk_25 6 (dk_at dksX3_hits_1 11 rfl rfl)
theorem dX3_hits_36 : decode cX3_hits 36 = .ok (.instanceof 76, 3) := dk_193 0 76 (dk_at dksX3_hits_1 13 rfl rfl)
theorem dX3_hits_39 : decode cX3_hits 39 = .ok (.ifCond .eq 31, 3) := dk_153 0 31 (dk_at dksX3_hits_1 16 rfl rfl)
theorem dX3_hits_42 : decode cX3_hits 42 = .ok (.iload_n 1, 1) := dk_27 (dk_at dksX3_hits_1 19 rfl rfl)
theorem dX3_hits_43 : decode cX3_hits 43 = .ok (.aload_n 0, 1) := dk_42 (dk_at dksX3_hits_1 20 rfl rfl)
theorem dX3_hits_44 : decode cX3_hits 44 = .ok (.getfield 34, 3) := dk_180 0 34 (dk_at dksX3_hits_1 21 rfl rfl)
theorem dX3_hits_47 : decode cX3_hits 47 = .ok (.aload 6, 2) := dk_25 6 (dk_at dksX3_hits_2 0 rfl rfl)
theorem dX3_hits_49 : decode cX3_hits 49 = .ok (.getfield 120, 3) := dk_180 0 120 (dk_at dksX3_hits_2 2 rfl rfl)
theorem dX3_hits_52 : decode cX3_hits 52 = .ok (.invokevirtual 123, 3) := dk_182 0 123 (dk_at dksX3_hits_2 5 rfl rfl)
theorem dX3_hits_55 : decode cX3_hits 55 = .ok (.ifCond .ne 7, 3) := dk_154 0 7 (dk_at dksX3_hits_2 8 rfl rfl)
theorem dX3_hits_58 : decode cX3_hits 58 = .ok (.iconst 0, 1) := dk_3 (dk_at dksX3_hits_2 11 rfl rfl)
theorem dX3_hits_59 : decode cX3_hits 59 = .ok (.goto 6, 3) := dk_167 0 6 (dk_at dksX3_hits_2 12 rfl rfl)
theorem dX3_hits_62 : decode cX3_hits 62 = .ok (.iconst 1, 1) := dk_4 (dk_at dksX3_hits_2 15 rfl rfl)
theorem dX3_hits_63 : decode cX3_hits 63 = .ok (.iload_n 2, 1) := dk_28 (dk_at dksX3_hits_2 16 rfl rfl)
theorem dX3_hits_64 : decode cX3_hits 64 = .ok (.ishl, 1) := dk_120 (dk_at dksX3_hits_2 17 rfl rfl)
theorem dX3_hits_65 : decode cX3_hits 65 = .ok (.ior, 1) := dk_128 (dk_at dksX3_hits_2 18 rfl rfl)
theorem dX3_hits_66 : decode cX3_hits 66 = .ok (.istore_n 1, 1) := dk_60 (dk_at dksX3_hits_2 19 rfl rfl)
theorem dX3_hits_67 : decode cX3_hits 67 = .ok (.iinc 2 1, 3) := dk_132 2 1 (dk_at dksX3_hits_2 20 rfl rfl)
theorem dX3_hits_70 : decode cX3_hits 70 = .ok (.iinc 5 1, 3) := dk_132 5 1 (dk_at dksX3_hits_3 0 rfl rfl)
theorem dX3_hits_73 : decode cX3_hits 73 = .ok (.goto (-52), 3) := dk_167 255 204 (dk_at dksX3_hits_3 3 rfl rfl)
theorem dX3_hits_76 : decode cX3_hits 76 = .ok (.iload_n 1, 1) := dk_27 (dk_at dksX3_hits_3 6 rfl rfl)
theorem dX3_hits_77 : decode cX3_hits 77 = .ok (.ireturn, 1) := dk_172 (dk_at dksX3_hits_3 7 rfl rfl)
abbrev cX3_turns : ByteArray := prog_13_method_26_code
def yX3_turns : MethodName := ⟨RX3, "turns", "(Ljava/util/ArrayList;I)V"⟩
def dkwX3_turns_1 : List UInt8 := [180, 0, 144, 28, 29, 122, 4, 126, 130, 181, 0, 144, 132, 3, 1, 167, 255, 220, 177]
abbrev dktX3_turns_1 : List UInt8 := dkwX3_turns_1 ++ []
def dkwX3_turns_0 : List UInt8 := [3, 62, 29, 43, 182, 0, 177, 162, 0, 34, 43, 29, 182, 0, 180, 192, 0, 74, 58, 4, 25, 4, 89]
abbrev dktX3_turns_0 : List UInt8 := dkwX3_turns_0 ++ dktX3_turns_1
theorem dksX3_turns_0 : cX3_turns.data.toList.drop 0 = dktX3_turns_0 := by decide +kernel
theorem dksX3_turns_1 : cX3_turns.data.toList.drop 23 = dktX3_turns_1 := dk_seg dksX3_turns_0 23 rfl rfl
theorem dX3_turns_0 : decode cX3_turns 0 = .ok (.iconst 0, 1) := dk_3 (dk_at dksX3_turns_0 0 rfl rfl)
theorem dX3_turns_1 : decode cX3_turns 1 = .ok (.istore_n 3, 1) := dk_62 (dk_at dksX3_turns_0 1 rfl rfl)
theorem dX3_turns_2 : decode cX3_turns 2 = .ok (.iload_n 3, 1) := dk_29 (dk_at dksX3_turns_0 2 rfl rfl)
theorem dX3_turns_3 : decode cX3_turns 3 = .ok (.aload_n 1, 1) := dk_43 (dk_at dksX3_turns_0 3 rfl rfl)
theorem dX3_turns_4 : decode cX3_turns 4 = .ok (.invokevirtual 177, 3) := dk_182 0 177 (dk_at dksX3_turns_0 4 rfl rfl)
theorem dX3_turns_7 : decode cX3_turns 7 = .ok (.if_icmp .ge 34, 3) := dk_162 0 34 (dk_at dksX3_turns_0 7 rfl rfl)
theorem dX3_turns_10 : decode cX3_turns 10 = .ok (.aload_n 1, 1) := dk_43 (dk_at dksX3_turns_0 10 rfl rfl)
theorem dX3_turns_11 : decode cX3_turns 11 = .ok (.iload_n 3, 1) := dk_29 (dk_at dksX3_turns_0 11 rfl rfl)
theorem dX3_turns_12 : decode cX3_turns 12 = .ok (.invokevirtual 180, 3) := dk_182 0 180 (dk_at dksX3_turns_0 12 rfl rfl)
theorem dX3_turns_15 : decode cX3_turns 15 = .ok (.checkcast 74, 3) := dk_192 0 74 (dk_at dksX3_turns_0 15 rfl rfl)
theorem dX3_turns_18 : decode cX3_turns 18 = .ok (.astore 4, 2) := dk_58 4 (dk_at dksX3_turns_0 18 rfl rfl)
theorem dX3_turns_20 : decode cX3_turns 20 = .ok (.aload 4, 2) := dk_25 4 (dk_at dksX3_turns_0 20 rfl rfl)
theorem dX3_turns_22 : decode cX3_turns 22 = .ok (.dup, 1) := dk_89 (dk_at dksX3_turns_0 22 rfl rfl)
theorem dX3_turns_23 : decode cX3_turns 23 = .ok (.getfield 144, 3) := dk_180 0 144 (dk_at dksX3_turns_1 0 rfl rfl)
theorem dX3_turns_26 : decode cX3_turns 26 = .ok (.iload_n 2, 1) := dk_28 (dk_at dksX3_turns_1 3 rfl rfl)
theorem dX3_turns_27 : decode cX3_turns 27 = .ok (.iload_n 3, 1) := dk_29 (dk_at dksX3_turns_1 4 rfl rfl)
theorem dX3_turns_28 : decode cX3_turns 28 = .ok (.ishr, 1) := dk_122 (dk_at dksX3_turns_1 5 rfl rfl)
theorem dX3_turns_29 : decode cX3_turns 29 = .ok (.iconst 1, 1) := dk_4 (dk_at dksX3_turns_1 6 rfl rfl)
theorem dX3_turns_30 : decode cX3_turns 30 = .ok (.iand, 1) := dk_126 (dk_at dksX3_turns_1 7 rfl rfl)
theorem dX3_turns_31 : decode cX3_turns 31 = .ok (.ixor, 1) := dk_130 (dk_at dksX3_turns_1 8 rfl rfl)
theorem dX3_turns_32 : decode cX3_turns 32 = .ok (.putfield 144, 3) := dk_181 0 144 (dk_at dksX3_turns_1 9 rfl rfl)
theorem dX3_turns_35 : decode cX3_turns 35 = .ok (.iinc 3 1, 3) := dk_132 3 1 (dk_at dksX3_turns_1 12 rfl rfl)
theorem dX3_turns_38 : decode cX3_turns 38 = .ok (.goto (-36), 3) := dk_167 255 220 (dk_at dksX3_turns_1 15 rfl rfl)
theorem dX3_turns_41 : decode cX3_turns 41 = .ok (.return_, 1) := dk_177 (dk_at dksX3_turns_1 18 rfl rfl)
abbrev cX3_worth : ByteArray := prog_13_method_24_code
def yX3_worth : MethodName := ⟨RX3, "worth", "(I)I"⟩
def dkwX3_worth_5 : List UInt8 := [167, 255, 201, 29, 172]
abbrev dktX3_worth_5 : List UInt8 := dkwX3_worth_5 ++ []
def dkwX3_worth_4 : List UInt8 := [153, 0, 21, 29, 42, 25, 7, 192, 0, 74, 27, 4, 100, 182, 0, 156, 116, 184, 0, 138, 62, 132, 6, 1]
abbrev dktX3_worth_4 : List UInt8 := dkwX3_worth_4 ++ dktX3_worth_5
def dkwX3_worth_3 : List UInt8 := [25, 4, 21, 6, 50, 58, 7, 25, 7, 193, 0, 74, 153, 0, 33, 25, 7, 192, 0, 74, 28, 182, 0, 135]
abbrev dktX3_worth_3 : List UInt8 := dkwX3_worth_3 ++ dktX3_worth_4
def dkwX3_worth_2 : List UInt8 := [18, 162, 62, 42, 180, 0, 9, 58, 4, 25, 4, 190, 54, 5, 3, 54, 6, 21, 6, 21, 5, 162, 0, 54]
abbrev dktX3_worth_2 : List UInt8 := dkwX3_worth_2 ++ dktX3_worth_3
def dkwX3_worth_1 : List UInt8 := [100, 182, 0, 101, 100, 172, 42, 182, 0, 153, 154, 0, 13, 42, 1, 27, 4, 100, 182, 0, 156, 116, 172]
abbrev dktX3_worth_1 : List UInt8 := dkwX3_worth_1 ++ dktX3_worth_2
def dkwX3_worth_0 : List UInt8 := [42, 182, 0, 131, 61, 42, 182, 0, 108, 154, 0, 7, 27, 154, 0, 17, 42, 28, 182, 0, 101, 42, 6, 28]
abbrev dktX3_worth_0 : List UInt8 := dkwX3_worth_0 ++ dktX3_worth_1
theorem dksX3_worth_0 : cX3_worth.data.toList.drop 0 = dktX3_worth_0 := by decide +kernel
theorem dksX3_worth_1 : cX3_worth.data.toList.drop 24 = dktX3_worth_1 := dk_seg dksX3_worth_0 24 rfl rfl
theorem dksX3_worth_2 : cX3_worth.data.toList.drop 47 = dktX3_worth_2 := dk_seg dksX3_worth_1 23 rfl rfl
theorem dksX3_worth_3 : cX3_worth.data.toList.drop 71 = dktX3_worth_3 := dk_seg dksX3_worth_2 24 rfl rfl
theorem dksX3_worth_4 : cX3_worth.data.toList.drop 95 = dktX3_worth_4 := dk_seg dksX3_worth_3 24 rfl rfl
theorem dksX3_worth_5 : cX3_worth.data.toList.drop 119 = dktX3_worth_5 := dk_seg dksX3_worth_4 24 rfl rfl
theorem dX3_worth_0 : decode cX3_worth 0 = .ok (.aload_n 0, 1) := dk_42 (dk_at dksX3_worth_0 0 rfl rfl)
theorem dX3_worth_1 : decode cX3_worth 1 = .ok (.invokevirtual 131, 3) := dk_182 0 131 (dk_at dksX3_worth_0 1 rfl rfl)
theorem dX3_worth_4 : decode cX3_worth 4 = .ok (.istore_n 2, 1) := dk_61 (dk_at dksX3_worth_0 4 rfl rfl)
theorem dX3_worth_5 : decode cX3_worth 5 = .ok (.aload_n 0, 1) := dk_42 (dk_at dksX3_worth_0 5 rfl rfl)
theorem dX3_worth_6 : decode cX3_worth 6 = .ok (.invokevirtual 108, 3) := dk_182 0 108 (dk_at dksX3_worth_0 6 rfl rfl)
theorem dX3_worth_9 : decode cX3_worth 9 = .ok (.ifCond .ne 7, 3) := dk_154 0 7 (dk_at dksX3_worth_0 9 rfl rfl)
theorem dX3_worth_12 : decode cX3_worth 12 = .ok (.iload_n 1, 1) := dk_27 (dk_at dksX3_worth_0 12 rfl rfl)
theorem dX3_worth_13 : decode cX3_worth 13 = .ok (.ifCond .ne 17, 3) := dk_154 0 17 (dk_at dksX3_worth_0 13 rfl rfl)
theorem dX3_worth_16 : decode cX3_worth 16 = .ok (.aload_n 0, 1) := dk_42 (dk_at dksX3_worth_0 16 rfl rfl)
theorem dX3_worth_17 : decode cX3_worth 17 = .ok (.iload_n 2, 1) := dk_28 (dk_at dksX3_worth_0 17 rfl rfl)
theorem dX3_worth_18 : decode cX3_worth 18 = .ok (.invokevirtual 101, 3) := dk_182 0 101 (dk_at dksX3_worth_0 18 rfl rfl)
theorem dX3_worth_21 : decode cX3_worth 21 = .ok (.aload_n 0, 1) := dk_42 (dk_at dksX3_worth_0 21 rfl rfl)
theorem dX3_worth_22 : decode cX3_worth 22 = .ok (.iconst 3, 1) := dk_6 (dk_at dksX3_worth_0 22 rfl rfl)
theorem dX3_worth_23 : decode cX3_worth 23 = .ok (.iload_n 2, 1) := dk_28 (dk_at dksX3_worth_0 23 rfl rfl)
theorem dX3_worth_24 : decode cX3_worth 24 = .ok (.isub, 1) := dk_100 (dk_at dksX3_worth_1 0 rfl rfl)
theorem dX3_worth_25 : decode cX3_worth 25 = .ok (.invokevirtual 101, 3) := dk_182 0 101 (dk_at dksX3_worth_1 1 rfl rfl)
theorem dX3_worth_28 : decode cX3_worth 28 = .ok (.isub, 1) := dk_100 (dk_at dksX3_worth_1 4 rfl rfl)
theorem dX3_worth_29 : decode cX3_worth 29 = .ok (.ireturn, 1) := dk_172 (dk_at dksX3_worth_1 5 rfl rfl)
theorem dX3_worth_30 : decode cX3_worth 30 = .ok (.aload_n 0, 1) := dk_42 (dk_at dksX3_worth_1 6 rfl rfl)
theorem dX3_worth_31 : decode cX3_worth 31 = .ok (.invokevirtual 153, 3) := dk_182 0 153 (dk_at dksX3_worth_1 7 rfl rfl)
theorem dX3_worth_34 : decode cX3_worth 34 = .ok (.ifCond .ne 13, 3) := dk_154 0 13 (dk_at dksX3_worth_1 10 rfl rfl)
theorem dX3_worth_37 : decode cX3_worth 37 = .ok (.aload_n 0, 1) := dk_42 (dk_at dksX3_worth_1 13 rfl rfl)
theorem dX3_worth_38 : decode cX3_worth 38 = .ok (.aconst_null, 1) := dk_1 (dk_at dksX3_worth_1 14 rfl rfl)
theorem dX3_worth_39 : decode cX3_worth 39 = .ok (.iload_n 1, 1) := dk_27 (dk_at dksX3_worth_1 15 rfl rfl)
theorem dX3_worth_40 : decode cX3_worth 40 = .ok (.iconst 1, 1) := dk_4 (dk_at dksX3_worth_1 16 rfl rfl)
theorem dX3_worth_41 : decode cX3_worth 41 = .ok (.isub, 1) := dk_100 (dk_at dksX3_worth_1 17 rfl rfl)
theorem dX3_worth_42 : decode cX3_worth 42 = .ok (.invokevirtual 156, 3) := dk_182 0 156 (dk_at dksX3_worth_1 18 rfl rfl)
theorem dX3_worth_45 : decode cX3_worth 45 = .ok (.ineg, 1) := dk_116 (dk_at dksX3_worth_1 21 rfl rfl)
theorem dX3_worth_46 : decode cX3_worth 46 = .ok (.ireturn, 1) := dk_172 (dk_at dksX3_worth_1 22 rfl rfl)
theorem dX3_worth_47 : decode cX3_worth 47 = .ok (.ldc 162, 2) := dk_18 162 (dk_at dksX3_worth_2 0 rfl rfl)
theorem dX3_worth_49 : decode cX3_worth 49 = .ok (.istore_n 3, 1) := dk_62 (dk_at dksX3_worth_2 2 rfl rfl)
theorem dX3_worth_50 : decode cX3_worth 50 = .ok (.aload_n 0, 1) := dk_42 (dk_at dksX3_worth_2 3 rfl rfl)
theorem dX3_worth_51 : decode cX3_worth 51 = .ok (.getfield 9, 3) := dk_180 0 9 (dk_at dksX3_worth_2 4 rfl rfl)
theorem dX3_worth_54 : decode cX3_worth 54 = .ok (.astore 4, 2) := dk_58 4 (dk_at dksX3_worth_2 7 rfl rfl)
theorem dX3_worth_56 : decode cX3_worth 56 = .ok (.aload 4, 2) := dk_25 4 (dk_at dksX3_worth_2 9 rfl rfl)
theorem dX3_worth_58 : decode cX3_worth 58 = .ok (.arraylength, 1) := dk_190 (dk_at dksX3_worth_2 11 rfl rfl)
theorem dX3_worth_59 : decode cX3_worth 59 = .ok (.istore 5, 2) := dk_54 5 (dk_at dksX3_worth_2 12 rfl rfl)
theorem dX3_worth_61 : decode cX3_worth 61 = .ok (.iconst 0, 1) := dk_3 (dk_at dksX3_worth_2 14 rfl rfl)
theorem dX3_worth_62 : decode cX3_worth 62 = .ok (.istore 6, 2) := dk_54 6 (dk_at dksX3_worth_2 15 rfl rfl)
theorem dX3_worth_64 : decode cX3_worth 64 = .ok (.iload 6, 2) := dk_21 6 (dk_at dksX3_worth_2 17 rfl rfl)
theorem dX3_worth_66 : decode cX3_worth 66 = .ok (.iload 5, 2) := dk_21 5 (dk_at dksX3_worth_2 19 rfl rfl)
theorem dX3_worth_68 : decode cX3_worth 68 = .ok (.if_icmp .ge 54, 3) := dk_162 0 54 (dk_at dksX3_worth_2 21 rfl rfl)
theorem dX3_worth_71 : decode cX3_worth 71 = .ok (.aload 4, 2) := dk_25 4 (dk_at dksX3_worth_3 0 rfl rfl)
theorem dX3_worth_73 : decode cX3_worth 73 = .ok (.iload 6, 2) := dk_21 6 (dk_at dksX3_worth_3 2 rfl rfl)
theorem dX3_worth_75 : decode cX3_worth 75 = .ok (.aaload, 1) := dk_50 (dk_at dksX3_worth_3 4 rfl rfl)
theorem dX3_worth_76 : decode cX3_worth 76 = .ok (.astore 7, 2) := dk_58 7 (dk_at dksX3_worth_3 5 rfl rfl)
theorem dX3_worth_78 : decode cX3_worth 78 = .ok (.aload 7, 2) := dk_25 7 (dk_at dksX3_worth_3 7 rfl rfl)
theorem dX3_worth_80 : decode cX3_worth 80 = .ok (.instanceof 74, 3) := dk_193 0 74 (dk_at dksX3_worth_3 9 rfl rfl)
theorem dX3_worth_83 : decode cX3_worth 83 = .ok (.ifCond .eq 33, 3) := dk_153 0 33 (dk_at dksX3_worth_3 12 rfl rfl)
theorem dX3_worth_86 : decode cX3_worth 86 = .ok (.aload 7, 2) := dk_25 7 (dk_at dksX3_worth_3 15 rfl rfl)
theorem dX3_worth_88 : decode cX3_worth 88 = .ok (.checkcast 74, 3) := dk_192 0 74 (dk_at dksX3_worth_3 17 rfl rfl)
theorem dX3_worth_91 : decode cX3_worth 91 = .ok (.iload_n 2, 1) := dk_28 (dk_at dksX3_worth_3 20 rfl rfl)
theorem dX3_worth_92 : decode cX3_worth 92 = .ok (.invokevirtual 135, 3) := dk_182 0 135 (dk_at dksX3_worth_3 21 rfl rfl)
theorem dX3_worth_95 : decode cX3_worth 95 = .ok (.ifCond .eq 21, 3) := dk_153 0 21 (dk_at dksX3_worth_4 0 rfl rfl)
theorem dX3_worth_98 : decode cX3_worth 98 = .ok (.iload_n 3, 1) := dk_29 (dk_at dksX3_worth_4 3 rfl rfl)
theorem dX3_worth_99 : decode cX3_worth 99 = .ok (.aload_n 0, 1) := dk_42 (dk_at dksX3_worth_4 4 rfl rfl)
theorem dX3_worth_100 : decode cX3_worth 100 = .ok (.aload 7, 2) := dk_25 7 (dk_at dksX3_worth_4 5 rfl rfl)
theorem dX3_worth_102 : decode cX3_worth 102 = .ok (.checkcast 74, 3) := dk_192 0 74 (dk_at dksX3_worth_4 7 rfl rfl)
theorem dX3_worth_105 : decode cX3_worth 105 = .ok (.iload_n 1, 1) := dk_27 (dk_at dksX3_worth_4 10 rfl rfl)
theorem dX3_worth_106 : decode cX3_worth 106 = .ok (.iconst 1, 1) := dk_4 (dk_at dksX3_worth_4 11 rfl rfl)
theorem dX3_worth_107 : decode cX3_worth 107 = .ok (.isub, 1) := dk_100 (dk_at dksX3_worth_4 12 rfl rfl)
theorem dX3_worth_108 : decode cX3_worth 108 = .ok (.invokevirtual 156, 3) := dk_182 0 156 (dk_at dksX3_worth_4 13 rfl rfl)
theorem dX3_worth_111 : decode cX3_worth 111 = .ok (.ineg, 1) := dk_116 (dk_at dksX3_worth_4 16 rfl rfl)
theorem dX3_worth_112 : decode cX3_worth 112 = .ok (.invokestatic 138, 3) := dk_184 0 138 (dk_at dksX3_worth_4 17 rfl rfl)
theorem dX3_worth_115 : decode cX3_worth 115 = .ok (.istore_n 3, 1) := dk_62 (dk_at dksX3_worth_4 20 rfl rfl)
theorem dX3_worth_116 : decode cX3_worth 116 = .ok (.iinc 6 1, 3) := dk_132 6 1 (dk_at dksX3_worth_4 21 rfl rfl)
theorem dX3_worth_119 : decode cX3_worth 119 = .ok (.goto (-55), 3) := dk_167 255 201 (dk_at dksX3_worth_5 0 rfl rfl)
theorem dX3_worth_122 : decode cX3_worth 122 = .ok (.iload_n 3, 1) := dk_29 (dk_at dksX3_worth_5 3 rfl rfl)
theorem dX3_worth_123 : decode cX3_worth 123 = .ok (.ireturn, 1) := dk_172 (dk_at dksX3_worth_5 4 rfl rfl)
abbrev cX3_worthBehind : ByteArray := prog_13_method_25_code
def yX3_worthBehind : MethodName := ⟨RX3, "worthBehind", "(LMirrorDoors$Mirror;I)I"⟩
def dkwX3_worthBehind_1 : List UInt8 := [42, 43, 45, 21, 4, 182, 0, 173, 21, 5, 172]
abbrev dktX3_worthBehind_1 : List UInt8 := dkwX3_worthBehind_1 ++ []
def dkwX3_worthBehind_0 : List UInt8 := [42, 182, 0, 163, 78, 42, 180, 0, 57, 54, 4, 42, 43, 182, 0, 167, 87, 42, 28, 182, 0, 170, 54, 5]
abbrev dktX3_worthBehind_0 : List UInt8 := dkwX3_worthBehind_0 ++ dktX3_worthBehind_1
theorem dksX3_worthBehind_0 : cX3_worthBehind.data.toList.drop 0 = dktX3_worthBehind_0 := by decide +kernel
theorem dksX3_worthBehind_1 : cX3_worthBehind.data.toList.drop 24 = dktX3_worthBehind_1 := dk_seg dksX3_worthBehind_0 24 rfl rfl
theorem dX3_worthBehind_0 : decode cX3_worthBehind 0 = .ok (.aload_n 0, 1) := dk_42 (dk_at dksX3_worthBehind_0 0 rfl rfl)
theorem dX3_worthBehind_1 : decode cX3_worthBehind 1 = .ok (.invokevirtual 163, 3) := dk_182 0 163 (dk_at dksX3_worthBehind_0 1 rfl rfl)
theorem dX3_worthBehind_4 : decode cX3_worthBehind 4 = .ok (.astore_n 3, 1) := dk_78 (dk_at dksX3_worthBehind_0 4 rfl rfl)
theorem dX3_worthBehind_5 : decode cX3_worthBehind 5 = .ok (.aload_n 0, 1) := dk_42 (dk_at dksX3_worthBehind_0 5 rfl rfl)
theorem dX3_worthBehind_6 : decode cX3_worthBehind 6 = .ok (.getfield 57, 3) := dk_180 0 57 (dk_at dksX3_worthBehind_0 6 rfl rfl)
theorem dX3_worthBehind_9 : decode cX3_worthBehind 9 = .ok (.istore 4, 2) := dk_54 4 (dk_at dksX3_worthBehind_0 9 rfl rfl)
theorem dX3_worthBehind_11 : decode cX3_worthBehind 11 = .ok (.aload_n 0, 1) := dk_42 (dk_at dksX3_worthBehind_0 11 rfl rfl)
theorem dX3_worthBehind_12 : decode cX3_worthBehind 12 = .ok (.aload_n 1, 1) := dk_43 (dk_at dksX3_worthBehind_0 12 rfl rfl)
theorem dX3_worthBehind_13 : decode cX3_worthBehind 13 = .ok (.invokevirtual 167, 3) := dk_182 0 167 (dk_at dksX3_worthBehind_0 13 rfl rfl)
theorem dX3_worthBehind_16 : decode cX3_worthBehind 16 = .ok (.pop, 1) := dk_87 (dk_at dksX3_worthBehind_0 16 rfl rfl)
theorem dX3_worthBehind_17 : decode cX3_worthBehind 17 = .ok (.aload_n 0, 1) := dk_42 (dk_at dksX3_worthBehind_0 17 rfl rfl)
theorem dX3_worthBehind_18 : decode cX3_worthBehind 18 = .ok (.iload_n 2, 1) := dk_28 (dk_at dksX3_worthBehind_0 18 rfl rfl)
theorem dX3_worthBehind_19 : decode cX3_worthBehind 19 = .ok (.invokevirtual 170, 3) := dk_182 0 170 (dk_at dksX3_worthBehind_0 19 rfl rfl)
theorem dX3_worthBehind_22 : decode cX3_worthBehind 22 = .ok (.istore 5, 2) := dk_54 5 (dk_at dksX3_worthBehind_0 22 rfl rfl)
theorem dX3_worthBehind_24 : decode cX3_worthBehind 24 = .ok (.aload_n 0, 1) := dk_42 (dk_at dksX3_worthBehind_1 0 rfl rfl)
theorem dX3_worthBehind_25 : decode cX3_worthBehind 25 = .ok (.aload_n 1, 1) := dk_43 (dk_at dksX3_worthBehind_1 1 rfl rfl)
theorem dX3_worthBehind_26 : decode cX3_worthBehind 26 = .ok (.aload_n 3, 1) := dk_45 (dk_at dksX3_worthBehind_1 2 rfl rfl)
theorem dX3_worthBehind_27 : decode cX3_worthBehind 27 = .ok (.iload 4, 2) := dk_21 4 (dk_at dksX3_worthBehind_1 3 rfl rfl)
theorem dX3_worthBehind_29 : decode cX3_worthBehind 29 = .ok (.invokevirtual 173, 3) := dk_182 0 173 (dk_at dksX3_worthBehind_1 5 rfl rfl)
theorem dX3_worthBehind_32 : decode cX3_worthBehind 32 = .ok (.iload 5, 2) := dk_21 5 (dk_at dksX3_worthBehind_1 8 rfl rfl)
theorem dX3_worthBehind_34 : decode cX3_worthBehind 34 = .ok (.ireturn, 1) := dk_172 (dk_at dksX3_worthBehind_1 10 rfl rfl)
abbrev cX3_row : ByteArray := prog_13_method_22_code
def yX3_row : MethodName := ⟨RX3, "row", "()[I"⟩
def dkwX3_row_3 : List UInt8 := [25, 6, 192, 0, 76, 180, 0, 126, 79, 132, 2, 1, 132, 5, 1, 167, 255, 191, 43, 176]
abbrev dktX3_row_3 : List UInt8 := dkwX3_row_3 ++ []
def dkwX3_row_2 : List UInt8 := [153, 0, 36, 43, 28, 25, 6, 193, 0, 74, 153, 0, 14, 25, 6, 192, 0, 74, 180, 0, 134, 167, 0, 11]
abbrev dktX3_row_2 : List UInt8 := dkwX3_row_2 ++ dktX3_row_3
def dkwX3_row_1 : List UInt8 := [162, 0, 64, 45, 21, 5, 50, 58, 6, 25, 6, 193, 0, 74, 154, 0, 11, 25, 6, 193, 0, 76]
abbrev dktX3_row_1 : List UInt8 := dkwX3_row_1 ++ dktX3_row_2
def dkwX3_row_0 : List UInt8 := [16, 20, 188, 10, 76, 3, 61, 42, 180, 0, 9, 78, 45, 190, 54, 4, 3, 54, 5, 21, 5, 21, 4]
abbrev dktX3_row_0 : List UInt8 := dkwX3_row_0 ++ dktX3_row_1
theorem dksX3_row_0 : cX3_row.data.toList.drop 0 = dktX3_row_0 := by decide +kernel
theorem dksX3_row_1 : cX3_row.data.toList.drop 23 = dktX3_row_1 := dk_seg dksX3_row_0 23 rfl rfl
theorem dksX3_row_2 : cX3_row.data.toList.drop 45 = dktX3_row_2 := dk_seg dksX3_row_1 22 rfl rfl
theorem dksX3_row_3 : cX3_row.data.toList.drop 69 = dktX3_row_3 := dk_seg dksX3_row_2 24 rfl rfl
theorem dX3_row_0 : decode cX3_row 0 = .ok (.bipush 20, 2) := dk_16 20 (dk_at dksX3_row_0 0 rfl rfl)
theorem dX3_row_2 : decode cX3_row 2 = .ok (.newarray .int, 2) := dk_188_10 (dk_at dksX3_row_0 2 rfl rfl)
theorem dX3_row_4 : decode cX3_row 4 = .ok (.astore_n 1, 1) := dk_76 (dk_at dksX3_row_0 4 rfl rfl)
theorem dX3_row_5 : decode cX3_row 5 = .ok (.iconst 0, 1) := dk_3 (dk_at dksX3_row_0 5 rfl rfl)
theorem dX3_row_6 : decode cX3_row 6 = .ok (.istore_n 2, 1) := dk_61 (dk_at dksX3_row_0 6 rfl rfl)
theorem dX3_row_7 : decode cX3_row 7 = .ok (.aload_n 0, 1) := dk_42 (dk_at dksX3_row_0 7 rfl rfl)
theorem dX3_row_8 : decode cX3_row 8 = .ok (.getfield 9, 3) := dk_180 0 9 (dk_at dksX3_row_0 8 rfl rfl)
theorem dX3_row_11 : decode cX3_row 11 = .ok (.astore_n 3, 1) := dk_78 (dk_at dksX3_row_0 11 rfl rfl)
theorem dX3_row_12 : decode cX3_row 12 = .ok (.aload_n 3, 1) := dk_45 (dk_at dksX3_row_0 12 rfl rfl)
theorem dX3_row_13 : decode cX3_row 13 = .ok (.arraylength, 1) := dk_190 (dk_at dksX3_row_0 13 rfl rfl)
theorem dX3_row_14 : decode cX3_row 14 = .ok (.istore 4, 2) := dk_54 4 (dk_at dksX3_row_0 14 rfl rfl)
theorem dX3_row_16 : decode cX3_row 16 = .ok (.iconst 0, 1) := dk_3 (dk_at dksX3_row_0 16 rfl rfl)
theorem dX3_row_17 : decode cX3_row 17 = .ok (.istore 5, 2) := dk_54 5 (dk_at dksX3_row_0 17 rfl rfl)
theorem dX3_row_19 : decode cX3_row 19 = .ok (.iload 5, 2) := dk_21 5 (dk_at dksX3_row_0 19 rfl rfl)
theorem dX3_row_21 : decode cX3_row 21 = .ok (.iload 4, 2) := dk_21 4 (dk_at dksX3_row_0 21 rfl rfl)
theorem dX3_row_23 : decode cX3_row 23 = .ok (.if_icmp .ge 64, 3) := dk_162 0 64 (dk_at dksX3_row_1 0 rfl rfl)
theorem dX3_row_26 : decode cX3_row 26 = .ok (.aload_n 3, 1) := dk_45 (dk_at dksX3_row_1 3 rfl rfl)
theorem dX3_row_27 : decode cX3_row 27 = .ok (.iload 5, 2) := dk_21 5 (dk_at dksX3_row_1 4 rfl rfl)
theorem dX3_row_29 : decode cX3_row 29 = .ok (.aaload, 1) := dk_50 (dk_at dksX3_row_1 6 rfl rfl)
theorem dX3_row_30 : decode cX3_row 30 = .ok (.astore 6, 2) := dk_58 6 (dk_at dksX3_row_1 7 rfl rfl)
theorem dX3_row_32 : decode cX3_row 32 = .ok (.aload 6, 2) := dk_25 6 (dk_at dksX3_row_1 9 rfl rfl)
theorem dX3_row_34 : decode cX3_row 34 = .ok (.instanceof 74, 3) := dk_193 0 74 (dk_at dksX3_row_1 11 rfl rfl)
theorem dX3_row_37 : decode cX3_row 37 = .ok (.ifCond .ne 11, 3) := dk_154 0 11 (dk_at dksX3_row_1 14 rfl rfl)
theorem dX3_row_40 : decode cX3_row 40 = .ok (.aload 6, 2) := dk_25 6 (dk_at dksX3_row_1 17 rfl rfl)
theorem dX3_row_42 : decode cX3_row 42 = .ok (.instanceof 76, 3) := dk_193 0 76 (dk_at dksX3_row_1 19 rfl rfl)
theorem dX3_row_45 : decode cX3_row 45 = .ok (.ifCond .eq 36, 3) := dk_153 0 36 (dk_at dksX3_row_2 0 rfl rfl)
theorem dX3_row_48 : decode cX3_row 48 = .ok (.aload_n 1, 1) := dk_43 (dk_at dksX3_row_2 3 rfl rfl)
theorem dX3_row_49 : decode cX3_row 49 = .ok (.iload_n 2, 1) := dk_28 (dk_at dksX3_row_2 4 rfl rfl)
theorem dX3_row_50 : decode cX3_row 50 = .ok (.aload 6, 2) := dk_25 6 (dk_at dksX3_row_2 5 rfl rfl)
theorem dX3_row_52 : decode cX3_row 52 = .ok (.instanceof 74, 3) := dk_193 0 74 (dk_at dksX3_row_2 7 rfl rfl)
theorem dX3_row_55 : decode cX3_row 55 = .ok (.ifCond .eq 14, 3) := dk_153 0 14 (dk_at dksX3_row_2 10 rfl rfl)
theorem dX3_row_58 : decode cX3_row 58 = .ok (.aload 6, 2) := dk_25 6 (dk_at dksX3_row_2 13 rfl rfl)
theorem dX3_row_60 : decode cX3_row 60 = .ok (.checkcast 74, 3) := dk_192 0 74 (dk_at dksX3_row_2 15 rfl rfl)
theorem dX3_row_63 : decode cX3_row 63 = .ok (.getfield 134, 3) := dk_180 0 134 (dk_at dksX3_row_2 18 rfl rfl)
theorem dX3_row_66 : decode cX3_row 66 = .ok (.goto 11, 3) := dk_167 0 11 (dk_at dksX3_row_2 21 rfl rfl)
theorem dX3_row_69 : decode cX3_row 69 = .ok (.aload 6, 2) := dk_25 6 (dk_at dksX3_row_3 0 rfl rfl)
theorem dX3_row_71 : decode cX3_row 71 = .ok (.checkcast 76, 3) := dk_192 0 76 (dk_at dksX3_row_3 2 rfl rfl)
theorem dX3_row_74 : decode cX3_row 74 = .ok (.getfield 126, 3) := dk_180 0 126 (dk_at dksX3_row_3 5 rfl rfl)
theorem dX3_row_77 : decode cX3_row 77 = .ok (.iastore, 1) := dk_79 (dk_at dksX3_row_3 8 rfl rfl)
theorem dX3_row_78 : decode cX3_row 78 = .ok (.iinc 2 1, 3) := dk_132 2 1 (dk_at dksX3_row_3 9 rfl rfl)
theorem dX3_row_81 : decode cX3_row 81 = .ok (.iinc 5 1, 3) := dk_132 5 1 (dk_at dksX3_row_3 12 rfl rfl)
theorem dX3_row_84 : decode cX3_row 84 = .ok (.goto (-65), 3) := dk_167 255 191 (dk_at dksX3_row_3 15 rfl rfl)
theorem dX3_row_87 : decode cX3_row 87 = .ok (.aload_n 1, 1) := dk_43 (dk_at dksX3_row_3 18 rfl rfl)
theorem dX3_row_88 : decode cX3_row 88 = .ok (.areturn, 1) := dk_176 (dk_at dksX3_row_3 19 rfl rfl)
abbrev cX3_takesBack : ByteArray := prog_13_method_23_code
def yX3_takesBack : MethodName := ⟨RX3, "takesBack", "(LMirrorDoors$Mirror;[II)V"⟩
def dkwX3_takesBack_5 : List UInt8 := [181, 0, 54, 42, 29, 181, 0, 57, 177]
abbrev dktX3_takesBack_5 : List UInt8 := dkwX3_takesBack_5 ++ []
def dkwX3_takesBack_4 : List UInt8 := [180, 0, 144, 100, 181, 0, 144, 43, 89, 180, 0, 147, 4, 100, 181, 0, 147, 42, 89, 180, 0, 54, 4, 100]
abbrev dktX3_takesBack_4 : List UInt8 := dkwX3_takesBack_4 ++ dktX3_takesBack_5
def dkwX3_takesBack_3 : List UInt8 := [21, 4, 46, 181, 0, 126, 132, 4, 1, 132, 7, 1, 167, 255, 190, 43, 198, 0, 23, 43, 4, 43]
abbrev dktX3_takesBack_3 : List UInt8 := dkwX3_takesBack_3 ++ dktX3_takesBack_4
def dkwX3_takesBack_2 : List UInt8 := [181, 0, 134, 132, 4, 1, 167, 0, 26, 25, 8, 193, 0, 76, 153, 0, 18, 25, 8, 192, 0, 76, 44]
abbrev dktX3_takesBack_2 : List UInt8 := dkwX3_takesBack_2 ++ dktX3_takesBack_3
def dkwX3_takesBack_1 : List UInt8 := [25, 5, 21, 7, 50, 58, 8, 25, 8, 193, 0, 74, 153, 0, 21, 25, 8, 192, 0, 74, 44, 21, 4, 46]
abbrev dktX3_takesBack_1 : List UInt8 := dkwX3_takesBack_1 ++ dktX3_takesBack_2
def dkwX3_takesBack_0 : List UInt8 := [3, 54, 4, 42, 180, 0, 9, 58, 5, 25, 5, 190, 54, 6, 3, 54, 7, 21, 7, 21, 6, 162, 0, 65]
abbrev dktX3_takesBack_0 : List UInt8 := dkwX3_takesBack_0 ++ dktX3_takesBack_1
theorem dksX3_takesBack_0 : cX3_takesBack.data.toList.drop 0 = dktX3_takesBack_0 := by decide +kernel
theorem dksX3_takesBack_1 : cX3_takesBack.data.toList.drop 24 = dktX3_takesBack_1 := dk_seg dksX3_takesBack_0 24 rfl rfl
theorem dksX3_takesBack_2 : cX3_takesBack.data.toList.drop 48 = dktX3_takesBack_2 := dk_seg dksX3_takesBack_1 24 rfl rfl
theorem dksX3_takesBack_3 : cX3_takesBack.data.toList.drop 71 = dktX3_takesBack_3 := dk_seg dksX3_takesBack_2 23 rfl rfl
theorem dksX3_takesBack_4 : cX3_takesBack.data.toList.drop 93 = dktX3_takesBack_4 := dk_seg dksX3_takesBack_3 22 rfl rfl
theorem dksX3_takesBack_5 : cX3_takesBack.data.toList.drop 117 = dktX3_takesBack_5 := dk_seg dksX3_takesBack_4 24 rfl rfl
theorem dX3_takesBack_0 : decode cX3_takesBack 0 = .ok (.iconst 0, 1) := dk_3 (dk_at dksX3_takesBack_0 0 rfl rfl)
theorem dX3_takesBack_1 : decode cX3_takesBack 1 = .ok (.istore 4, 2) := dk_54 4 (dk_at dksX3_takesBack_0 1 rfl rfl)
theorem dX3_takesBack_3 : decode cX3_takesBack 3 = .ok (.aload_n 0, 1) := dk_42 (dk_at dksX3_takesBack_0 3 rfl rfl)
theorem dX3_takesBack_4 : decode cX3_takesBack 4 = .ok (.getfield 9, 3) := dk_180 0 9 (dk_at dksX3_takesBack_0 4 rfl rfl)
theorem dX3_takesBack_7 : decode cX3_takesBack 7 = .ok (.astore 5, 2) := dk_58 5 (dk_at dksX3_takesBack_0 7 rfl rfl)
theorem dX3_takesBack_9 : decode cX3_takesBack 9 = .ok (.aload 5, 2) := dk_25 5 (dk_at dksX3_takesBack_0 9 rfl rfl)
theorem dX3_takesBack_11 : decode cX3_takesBack 11 = .ok (.arraylength, 1) := dk_190 (dk_at dksX3_takesBack_0 11 rfl rfl)
theorem dX3_takesBack_12 : decode cX3_takesBack 12 = .ok (.istore 6, 2) := dk_54 6 (dk_at dksX3_takesBack_0 12 rfl rfl)
theorem dX3_takesBack_14 : decode cX3_takesBack 14 = .ok (.iconst 0, 1) := dk_3 (dk_at dksX3_takesBack_0 14 rfl rfl)
theorem dX3_takesBack_15 : decode cX3_takesBack 15 = .ok (.istore 7, 2) := dk_54 7 (dk_at dksX3_takesBack_0 15 rfl rfl)
theorem dX3_takesBack_17 : decode cX3_takesBack 17 = .ok (.iload 7, 2) := dk_21 7 (dk_at dksX3_takesBack_0 17 rfl rfl)
theorem dX3_takesBack_19 : decode cX3_takesBack 19 = .ok (.iload 6, 2) := dk_21 6 (dk_at dksX3_takesBack_0 19 rfl rfl)
theorem dX3_takesBack_21 : decode cX3_takesBack 21 = .ok (.if_icmp .ge 65, 3) := dk_162 0 65 (dk_at dksX3_takesBack_0 21 rfl rfl)
theorem dX3_takesBack_24 : decode cX3_takesBack 24 = .ok (.aload 5, 2) := dk_25 5 (dk_at dksX3_takesBack_1 0 rfl rfl)
theorem dX3_takesBack_26 : decode cX3_takesBack 26 = .ok (.iload 7, 2) := dk_21 7 (dk_at dksX3_takesBack_1 2 rfl rfl)
theorem dX3_takesBack_28 : decode cX3_takesBack 28 = .ok (.aaload, 1) := dk_50 (dk_at dksX3_takesBack_1 4 rfl rfl)
theorem dX3_takesBack_29 : decode cX3_takesBack 29 = .ok (.astore 8, 2) := dk_58 8 (dk_at dksX3_takesBack_1 5 rfl rfl)
theorem dX3_takesBack_31 : decode cX3_takesBack 31 = .ok (.aload 8, 2) := dk_25 8 (dk_at dksX3_takesBack_1 7 rfl rfl)
theorem dX3_takesBack_33 : decode cX3_takesBack 33 = .ok (.instanceof 74, 3) := dk_193 0 74 (dk_at dksX3_takesBack_1 9 rfl rfl)
theorem dX3_takesBack_36 : decode cX3_takesBack 36 = .ok (.ifCond .eq 21, 3) := dk_153 0 21 (dk_at dksX3_takesBack_1 12 rfl rfl)
theorem dX3_takesBack_39 : decode cX3_takesBack 39 = .ok (.aload 8, 2) := dk_25 8 (dk_at dksX3_takesBack_1 15 rfl rfl)
theorem dX3_takesBack_41 : decode cX3_takesBack 41 = .ok (.checkcast 74, 3) := dk_192 0 74 (dk_at dksX3_takesBack_1 17 rfl rfl)
theorem dX3_takesBack_44 : decode cX3_takesBack 44 = .ok (.aload_n 2, 1) := dk_44 (dk_at dksX3_takesBack_1 20 rfl rfl)
theorem dX3_takesBack_45 : decode cX3_takesBack 45 = .ok (.iload 4, 2) := dk_21 4 (dk_at dksX3_takesBack_1 21 rfl rfl)
theorem dX3_takesBack_47 : decode cX3_takesBack 47 = .ok (.iaload, 1) := dk_46 (dk_at dksX3_takesBack_1 23 rfl rfl)
theorem dX3_takesBack_48 : decode cX3_takesBack 48 = .ok (.putfield 134, 3) := dk_181 0 134 (dk_at dksX3_takesBack_2 0 rfl rfl)
theorem dX3_takesBack_51 : decode cX3_takesBack 51 = .ok (.iinc 4 1, 3) := dk_132 4 1 (dk_at dksX3_takesBack_2 3 rfl rfl)
theorem dX3_takesBack_54 : decode cX3_takesBack 54 = .ok (.goto 26, 3) := dk_167 0 26 (dk_at dksX3_takesBack_2 6 rfl rfl)
theorem dX3_takesBack_57 : decode cX3_takesBack 57 = .ok (.aload 8, 2) := dk_25 8 (dk_at dksX3_takesBack_2 9 rfl rfl)
theorem dX3_takesBack_59 : decode cX3_takesBack 59 = .ok (.instanceof 76, 3) := dk_193 0 76 (dk_at dksX3_takesBack_2 11 rfl rfl)
theorem dX3_takesBack_62 : decode cX3_takesBack 62 = .ok (.ifCond .eq 18, 3) := dk_153 0 18 (dk_at dksX3_takesBack_2 14 rfl rfl)
theorem dX3_takesBack_65 : decode cX3_takesBack 65 = .ok (.aload 8, 2) := dk_25 8 (dk_at dksX3_takesBack_2 17 rfl rfl)
theorem dX3_takesBack_67 : decode cX3_takesBack 67 = .ok (.checkcast 76, 3) := dk_192 0 76 (dk_at dksX3_takesBack_2 19 rfl rfl)
theorem dX3_takesBack_70 : decode cX3_takesBack 70 = .ok (.aload_n 2, 1) := dk_44 (dk_at dksX3_takesBack_2 22 rfl rfl)
theorem dX3_takesBack_71 : decode cX3_takesBack 71 = .ok (.iload 4, 2) := dk_21 4 (dk_at dksX3_takesBack_3 0 rfl rfl)
theorem dX3_takesBack_73 : decode cX3_takesBack 73 = .ok (.iaload, 1) := dk_46 (dk_at dksX3_takesBack_3 2 rfl rfl)
theorem dX3_takesBack_74 : decode cX3_takesBack 74 = .ok (.putfield 126, 3) := dk_181 0 126 (dk_at dksX3_takesBack_3 3 rfl rfl)
theorem dX3_takesBack_77 : decode cX3_takesBack 77 = .ok (.iinc 4 1, 3) := dk_132 4 1 (dk_at dksX3_takesBack_3 6 rfl rfl)
theorem dX3_takesBack_80 : decode cX3_takesBack 80 = .ok (.iinc 7 1, 3) := dk_132 7 1 (dk_at dksX3_takesBack_3 9 rfl rfl)
theorem dX3_takesBack_83 : decode cX3_takesBack 83 = .ok (.goto (-66), 3) := dk_167 255 190 (dk_at dksX3_takesBack_3 12 rfl rfl)
theorem dX3_takesBack_86 : decode cX3_takesBack 86 = .ok (.aload_n 1, 1) := dk_43 (dk_at dksX3_takesBack_3 15 rfl rfl)
theorem dX3_takesBack_87 : decode cX3_takesBack 87 = .ok (.ifnull 23, 3) := dk_198 0 23 (dk_at dksX3_takesBack_3 16 rfl rfl)
theorem dX3_takesBack_90 : decode cX3_takesBack 90 = .ok (.aload_n 1, 1) := dk_43 (dk_at dksX3_takesBack_3 19 rfl rfl)
theorem dX3_takesBack_91 : decode cX3_takesBack 91 = .ok (.iconst 1, 1) := dk_4 (dk_at dksX3_takesBack_3 20 rfl rfl)
theorem dX3_takesBack_92 : decode cX3_takesBack 92 = .ok (.aload_n 1, 1) := dk_43 (dk_at dksX3_takesBack_3 21 rfl rfl)
theorem dX3_takesBack_93 : decode cX3_takesBack 93 = .ok (.getfield 144, 3) := dk_180 0 144 (dk_at dksX3_takesBack_4 0 rfl rfl)
theorem dX3_takesBack_96 : decode cX3_takesBack 96 = .ok (.isub, 1) := dk_100 (dk_at dksX3_takesBack_4 3 rfl rfl)
theorem dX3_takesBack_97 : decode cX3_takesBack 97 = .ok (.putfield 144, 3) := dk_181 0 144 (dk_at dksX3_takesBack_4 4 rfl rfl)
theorem dX3_takesBack_100 : decode cX3_takesBack 100 = .ok (.aload_n 1, 1) := dk_43 (dk_at dksX3_takesBack_4 7 rfl rfl)
theorem dX3_takesBack_101 : decode cX3_takesBack 101 = .ok (.dup, 1) := dk_89 (dk_at dksX3_takesBack_4 8 rfl rfl)
theorem dX3_takesBack_102 : decode cX3_takesBack 102 = .ok (.getfield 147, 3) := dk_180 0 147 (dk_at dksX3_takesBack_4 9 rfl rfl)
theorem dX3_takesBack_105 : decode cX3_takesBack 105 = .ok (.iconst 1, 1) := dk_4 (dk_at dksX3_takesBack_4 12 rfl rfl)
theorem dX3_takesBack_106 : decode cX3_takesBack 106 = .ok (.isub, 1) := dk_100 (dk_at dksX3_takesBack_4 13 rfl rfl)
theorem dX3_takesBack_107 : decode cX3_takesBack 107 = .ok (.putfield 147, 3) := dk_181 0 147 (dk_at dksX3_takesBack_4 14 rfl rfl)
theorem dX3_takesBack_110 : decode cX3_takesBack 110 = .ok (.aload_n 0, 1) := dk_42 (dk_at dksX3_takesBack_4 17 rfl rfl)
theorem dX3_takesBack_111 : decode cX3_takesBack 111 = .ok (.dup, 1) := dk_89 (dk_at dksX3_takesBack_4 18 rfl rfl)
theorem dX3_takesBack_112 : decode cX3_takesBack 112 = .ok (.getfield 54, 3) := dk_180 0 54 (dk_at dksX3_takesBack_4 19 rfl rfl)
theorem dX3_takesBack_115 : decode cX3_takesBack 115 = .ok (.iconst 1, 1) := dk_4 (dk_at dksX3_takesBack_4 22 rfl rfl)
theorem dX3_takesBack_116 : decode cX3_takesBack 116 = .ok (.isub, 1) := dk_100 (dk_at dksX3_takesBack_4 23 rfl rfl)
theorem dX3_takesBack_117 : decode cX3_takesBack 117 = .ok (.putfield 54, 3) := dk_181 0 54 (dk_at dksX3_takesBack_5 0 rfl rfl)
theorem dX3_takesBack_120 : decode cX3_takesBack 120 = .ok (.aload_n 0, 1) := dk_42 (dk_at dksX3_takesBack_5 3 rfl rfl)
theorem dX3_takesBack_121 : decode cX3_takesBack 121 = .ok (.iload_n 3, 1) := dk_29 (dk_at dksX3_takesBack_5 4 rfl rfl)
theorem dX3_takesBack_122 : decode cX3_takesBack 122 = .ok (.putfield 57, 3) := dk_181 0 57 (dk_at dksX3_takesBack_5 5 rfl rfl)
theorem dX3_takesBack_125 : decode cX3_takesBack 125 = .ok (.return_, 1) := dk_177 (dk_at dksX3_takesBack_5 8 rfl rfl)
theorem q115 : (Jvm.Cond.initialized "MirrorDoors$World") ∈ lw_all := lw_g (lw_at lw_m1 5 rfl) rfl
theorem q229 : (Jvm.Cond.instantiable "MirrorDoors$World" (9 : Nat)) ∈ lw_all := lw_g (lw_at lw_m1 119 rfl) rfl
theorem q231 : (Jvm.Cond.instanceMethod ({ cls := "MirrorDoors$World", name := "<init>", desc := "(LMirrorDoors$Ray;IIII)V" } : Jvm.MethodName)) ∈ lw_all := lw_g (lw_at lw_m1 121 rfl) rfl
theorem q232 : (Jvm.Cond.code ({ cls := "MirrorDoors$World", name := "<init>", desc := "(LMirrorDoors$Ray;IIII)V" } : Jvm.MethodName) prog_13_method_1_code (7 : Nat) (Option.none : Option Jvm.ClassFile.FieldType)) ∈ lw_all := lw_g (lw_at lw_m1 122 rfl) rfl
theorem q233 : (Jvm.Cond.methodLink "MirrorDoors$World" (3 : Nat) ({ cls := "MirrorDoors$World", name := "<init>", desc := "(LMirrorDoors$Ray;III)V" } : Jvm.MethodName)) ∈ lw_all := lw_g (lw_at lw_m1 123 rfl) rfl
theorem q234 : (Jvm.Cond.instanceMethod ({ cls := "MirrorDoors$World", name := "<init>", desc := "(LMirrorDoors$Ray;III)V" } : Jvm.MethodName)) ∈ lw_all := lw_g (lw_at lw_m1 124 rfl) rfl
theorem q235 : (Jvm.Cond.code ({ cls := "MirrorDoors$World", name := "<init>", desc := "(LMirrorDoors$Ray;III)V" } : Jvm.MethodName) prog_13_method_2_code (5 : Nat) (Option.none : Option Jvm.ClassFile.FieldType)) ∈ lw_all := lw_g (lw_at lw_m1 125 rfl) rfl
theorem q236 : (Jvm.Cond.methodLink "MirrorDoors$World" (23 : Nat) ({ cls := "java/lang/Object", name := "<init>", desc := "()V" } : Jvm.MethodName)) ∈ lw_all := lw_g (lw_at lw_m1 126 rfl) rfl
theorem q237 : (Jvm.Cond.classLink "MirrorDoors$World" (28 : Nat) "MirrorDoors$Cell") ∈ lw_all := lw_g (lw_at lw_m1 127 rfl) rfl
theorem q239 : (Jvm.Cond.fieldLink "MirrorDoors$World" (34 : Nat) "MirrorDoors$World" "ray" "LMirrorDoors$Ray;") ∈ lw_all := lw_g (lw_at lw_m1 129 rfl) rfl
theorem q240 : (Jvm.Cond.fieldLink "MirrorDoors$World" (38 : Nat) "MirrorDoors$World" "wide" "I") ∈ lw_all := lw_g (lw_at lw_m1 130 rfl) rfl
theorem q243 : (Jvm.Cond.fieldLink "MirrorDoors$World" (41 : Nat) "MirrorDoors$World" "high" "I") ∈ lw_all := lw_g (lw_at lw_m1 133 rfl) rfl
theorem q246 : (Jvm.Cond.fieldLink "MirrorDoors$World" (9 : Nat) "MirrorDoors$World" "cells" "[LMirrorDoors$Cell;") ∈ lw_all := lw_g (lw_at lw_m1 136 rfl) rfl
theorem q250 : (Jvm.Cond.fieldLink "MirrorDoors$World" (44 : Nat) "MirrorDoors$World" "lamp" "I") ∈ lw_all := lw_g (lw_at lw_m1 140 rfl) rfl
theorem q253 : (Jvm.Cond.fieldLink "MirrorDoors$World" (51 : Nat) "MirrorDoors$World" "lock" "I") ∈ lw_all := lw_g (lw_at lw_m1 143 rfl) rfl
theorem q256 : (Jvm.Cond.fieldLink "MirrorDoors$World" (30 : Nat) "MirrorDoors$World" "limit" "I") ∈ lw_all := lw_g (lw_at lw_m1 146 rfl) rfl
theorem q259 : (Jvm.Cond.fieldLink "MirrorDoors$World" (54 : Nat) "MirrorDoors$World" "moves" "I") ∈ lw_all := lw_g (lw_at lw_m1 149 rfl) rfl
theorem q261 : (Jvm.Cond.fieldLink "MirrorDoors$World" (57 : Nat) "MirrorDoors$World" "latest" "I") ∈ lw_all := lw_g (lw_at lw_m1 151 rfl) rfl
theorem q262 : (Jvm.Cond.laysFinal "MirrorDoors$World" "MirrorDoors$World" "ray" "LMirrorDoors$Ray;") ∈ lw_all := lw_g (lw_at lw_m1 152 rfl) rfl
theorem q263 : (Jvm.Cond.soleField "MirrorDoors$World" "ray") ∈ lw_all := lw_g (lw_at lw_m1 153 rfl) rfl
theorem q264 : (Jvm.Cond.laysFinal "MirrorDoors$World" "MirrorDoors$World" "wide" "I") ∈ lw_all := lw_g (lw_at lw_m1 154 rfl) rfl
theorem q265 : (Jvm.Cond.soleField "MirrorDoors$World" "wide") ∈ lw_all := lw_g (lw_at lw_m1 155 rfl) rfl
theorem q266 : (Jvm.Cond.laysFinal "MirrorDoors$World" "MirrorDoors$World" "high" "I") ∈ lw_all := lw_g (lw_at lw_m1 156 rfl) rfl
theorem q267 : (Jvm.Cond.soleField "MirrorDoors$World" "high") ∈ lw_all := lw_g (lw_at lw_m1 157 rfl) rfl
theorem q268 : (Jvm.Cond.laysFinal "MirrorDoors$World" "MirrorDoors$World" "cells" "[LMirrorDoors$Cell;") ∈ lw_all := lw_g (lw_at lw_m1 158 rfl) rfl
theorem q269 : (Jvm.Cond.soleField "MirrorDoors$World" "cells") ∈ lw_all := lw_g (lw_at lw_m1 159 rfl) rfl
theorem q270 : (Jvm.Cond.lays "MirrorDoors$World" "MirrorDoors$World" "lamp" "I") ∈ lw_all := lw_g (lw_at lw_m1 160 rfl) rfl
theorem q271 : (Jvm.Cond.soleField "MirrorDoors$World" "lamp") ∈ lw_all := lw_g (lw_at lw_m1 161 rfl) rfl
theorem q272 : (Jvm.Cond.lays "MirrorDoors$World" "MirrorDoors$World" "lock" "I") ∈ lw_all := lw_g (lw_at lw_m1 162 rfl) rfl
theorem q273 : (Jvm.Cond.soleField "MirrorDoors$World" "lock") ∈ lw_all := lw_g (lw_at lw_m1 163 rfl) rfl
theorem q274 : (Jvm.Cond.lays "MirrorDoors$World" "MirrorDoors$World" "limit" "I") ∈ lw_all := lw_g (lw_at lw_m1 164 rfl) rfl
theorem q275 : (Jvm.Cond.soleField "MirrorDoors$World" "limit") ∈ lw_all := lw_g (lw_at lw_m1 165 rfl) rfl
theorem q276 : (Jvm.Cond.lays "MirrorDoors$World" "MirrorDoors$World" "moves" "I") ∈ lw_all := lw_g (lw_at lw_m1 166 rfl) rfl
theorem q277 : (Jvm.Cond.soleField "MirrorDoors$World" "moves") ∈ lw_all := lw_g (lw_at lw_m1 167 rfl) rfl
theorem q278 : (Jvm.Cond.lays "MirrorDoors$World" "MirrorDoors$World" "latest" "I") ∈ lw_all := lw_g (lw_at lw_m1 168 rfl) rfl
theorem q279 : (Jvm.Cond.soleField "MirrorDoors$World" "latest") ∈ lw_all := lw_g (lw_at lw_m1 169 rfl) rfl
theorem q280 : (Jvm.Cond.superclass "MirrorDoors$World" "java/lang/Object") ∈ lw_all := lw_g (lw_at lw_m1 170 rfl) rfl
theorem q281 : (Jvm.Cond.classLink "MirrorDoors$World" (13 : Nat) "MirrorDoors$Empty") ∈ lw_all := lw_g (lw_at lw_m1 171 rfl) rfl
theorem q283 : (Jvm.Cond.methodLink "MirrorDoors$World" (15 : Nat) ({ cls := "MirrorDoors$Empty", name := "<init>", desc := "(I)V" } : Jvm.MethodName)) ∈ lw_all := lw_g (lw_at lw_m1 173 rfl) rfl
theorem q300 : (Jvm.Cond.fieldLink "MirrorDoors$World" (120 : Nat) "MirrorDoors$Cell" "at" "I") ∈ lw_all := lw_g (lw_at lw_m1 190 rfl) rfl
theorem q306 : (Jvm.Cond.classLink "MirrorDoors$World" (18 : Nat) "MirrorDoors$Solid") ∈ lw_all := lw_g (lw_at lw_m1 196 rfl) rfl
theorem q308 : (Jvm.Cond.methodLink "MirrorDoors$World" (20 : Nat) ({ cls := "MirrorDoors$Solid", name := "<init>", desc := "(II)V" } : Jvm.MethodName)) ∈ lw_all := lw_g (lw_at lw_m1 198 rfl) rfl
theorem q327 : (Jvm.Cond.fieldLinkNest "MirrorDoors$World" (129 : Nat) "MirrorDoors$Mirror" "owner" "I" "MirrorDoors") ∈ lw_tbl := lw_at lw_m1 217 rfl
theorem q330 : (Jvm.Cond.fieldLinkNest "MirrorDoors$World" (144 : Nat) "MirrorDoors$Mirror" "slant" "I" "MirrorDoors") ∈ lw_tbl := lw_at lw_m1 220 rfl
theorem q333 : (Jvm.Cond.fieldLinkNest "MirrorDoors$World" (134 : Nat) "MirrorDoors$Mirror" "lock" "I" "MirrorDoors") ∈ lw_tbl := lw_at lw_m1 223 rfl
theorem q336 : (Jvm.Cond.fieldLinkNest "MirrorDoors$World" (147 : Nat) "MirrorDoors$Mirror" "turns" "I" "MirrorDoors") ∈ lw_tbl := lw_at lw_m1 226 rfl
theorem q359 : (Jvm.Cond.fieldLinkNest "MirrorDoors$World" (126 : Nat) "MirrorDoors$Door" "opened" "I" "MirrorDoors") ∈ lw_tbl := lw_at lw_m2 9 rfl
theorem q372 : (Jvm.Cond.instanceMethod ({ cls := "MirrorDoors$World", name := "laysOpen", desc := "()V" } : Jvm.MethodName)) ∈ lw_all := lw_g (lw_at lw_m2 22 rfl) rfl
theorem q373 : (Jvm.Cond.selects "MirrorDoors$World" ({ cls := "MirrorDoors$World", name := "laysOpen", desc := "()V" } : Jvm.MethodName) ({ cls := "MirrorDoors$World", name := "laysOpen", desc := "()V" } : Jvm.MethodName)) ∈ lw_all := lw_g (lw_at lw_m2 23 rfl) rfl
theorem q374 : (Jvm.Cond.code ({ cls := "MirrorDoors$World", name := "laysOpen", desc := "()V" } : Jvm.MethodName) prog_13_method_16_code (5 : Nat) (Option.none : Option Jvm.ClassFile.FieldType)) ∈ lw_all := lw_g (lw_at lw_m2 24 rfl) rfl
theorem q375 : (Jvm.Cond.methodLink "MirrorDoors$World" (117 : Nat) ({ cls := "MirrorDoors$World", name := "ray", desc := "()LMirrorDoors$Ray;" } : Jvm.MethodName)) ∈ lw_all := lw_g (lw_at lw_m2 25 rfl) rfl
theorem q376 : (Jvm.Cond.instanceMethod ({ cls := "MirrorDoors$World", name := "ray", desc := "()LMirrorDoors$Ray;" } : Jvm.MethodName)) ∈ lw_all := lw_g (lw_at lw_m2 26 rfl) rfl
theorem q377 : (Jvm.Cond.selects "MirrorDoors$World" ({ cls := "MirrorDoors$World", name := "ray", desc := "()LMirrorDoors$Ray;" } : Jvm.MethodName) ({ cls := "MirrorDoors$World", name := "ray", desc := "()LMirrorDoors$Ray;" } : Jvm.MethodName)) ∈ lw_all := lw_g (lw_at lw_m2 27 rfl) rfl
theorem q378 : (Jvm.Cond.code ({ cls := "MirrorDoors$World", name := "ray", desc := "()LMirrorDoors$Ray;" } : Jvm.MethodName) prog_13_method_15_code (1 : Nat) (Option.some (Jvm.ClassFile.FieldType.object "MirrorDoors$Ray"))) ∈ lw_all := lw_g (lw_at lw_m2 28 rfl) rfl
theorem q379 : (Jvm.Cond.methodLink "MirrorDoors$World" (111 : Nat) ({ cls := "MirrorDoors$Ray", name := "trace", desc := "(LMirrorDoors$World;)V" } : Jvm.MethodName)) ∈ lw_all := lw_g (lw_at lw_m2 29 rfl) rfl
theorem q384 : (Jvm.Cond.instanceMethod ({ cls := "MirrorDoors$World", name := "lampDirection", desc := "()I" } : Jvm.MethodName)) ∈ lw_all := lw_g (lw_at lw_m2 34 rfl) rfl
theorem q385 : (Jvm.Cond.selects "MirrorDoors$World" ({ cls := "MirrorDoors$World", name := "lampDirection", desc := "()I" } : Jvm.MethodName) ({ cls := "MirrorDoors$World", name := "lampDirection", desc := "()I" } : Jvm.MethodName)) ∈ lw_all := lw_g (lw_at lw_m2 35 rfl) rfl
theorem q386 : (Jvm.Cond.code ({ cls := "MirrorDoors$World", name := "lampDirection", desc := "()I" } : Jvm.MethodName) prog_13_method_5_code (1 : Nat) (Option.some Jvm.ClassFile.FieldType.int)) ∈ lw_all := lw_g (lw_at lw_m2 36 rfl) rfl
theorem q387 : (Jvm.Cond.methodLink "MirrorDoors$World" (64 : Nat) ({ cls := "MirrorDoors$Cell", name := "form", desc := "()I" } : Jvm.MethodName)) ∈ lw_all := lw_g (lw_at lw_m2 37 rfl) rfl
theorem q414 : (Jvm.Cond.instanceMethod ({ cls := "MirrorDoors$World", name := "isOn", desc := "(II)Z" } : Jvm.MethodName)) ∈ lw_all := lw_g (lw_at lw_m2 64 rfl) rfl
theorem q415 : (Jvm.Cond.selects "MirrorDoors$World" ({ cls := "MirrorDoors$World", name := "isOn", desc := "(II)Z" } : Jvm.MethodName) ({ cls := "MirrorDoors$World", name := "isOn", desc := "(II)Z" } : Jvm.MethodName)) ∈ lw_all := lw_g (lw_at lw_m2 65 rfl) rfl
theorem q416 : (Jvm.Cond.code ({ cls := "MirrorDoors$World", name := "isOn", desc := "(II)Z" } : Jvm.MethodName) prog_13_method_4_code (3 : Nat) (Option.some Jvm.ClassFile.FieldType.boolean)) ∈ lw_all := lw_g (lw_at lw_m2 66 rfl) rfl
theorem q417 : (Jvm.Cond.methodLinkNest "MirrorDoors$World" (60 : Nat) ({ cls := "MirrorDoors", name := "isIn", desc := "(III)Z" } : Jvm.MethodName) "MirrorDoors") ∈ lw_tbl := lw_at lw_m2 67 rfl
theorem q463 : (Jvm.Cond.classLink "MirrorDoors$World" (76 : Nat) "MirrorDoors$Door") ∈ lw_all := lw_g (lw_at lw_m2 113 rfl) rfl
theorem q464 : (Jvm.Cond.methodLink "MirrorDoors$World" (123 : Nat) ({ cls := "MirrorDoors$Ray", name := "lights", desc := "(I)I" } : Jvm.MethodName)) ∈ lw_all := lw_g (lw_at lw_m2 114 rfl) rfl
theorem q1006 : (Jvm.Cond.instanceMethod ({ cls := "MirrorDoors$World", name := "many", desc := "(I)I" } : Jvm.MethodName)) ∈ lw_all := lw_g (lw_at lw_m4 176 rfl) rfl
theorem q1007 : (Jvm.Cond.selects "MirrorDoors$World" ({ cls := "MirrorDoors$World", name := "many", desc := "(I)I" } : Jvm.MethodName) ({ cls := "MirrorDoors$World", name := "many", desc := "(I)I" } : Jvm.MethodName)) ∈ lw_all := lw_g (lw_at lw_m4 177 rfl) rfl
theorem q1008 : (Jvm.Cond.code ({ cls := "MirrorDoors$World", name := "many", desc := "(I)I" } : Jvm.MethodName) prog_13_method_6_code (5 : Nat) (Option.some Jvm.ClassFile.FieldType.int)) ∈ lw_all := lw_g (lw_at lw_m4 178 rfl) rfl
theorem q1009 : (Jvm.Cond.methodLink "MirrorDoors$World" (68 : Nat) ({ cls := "MirrorDoors$Cell", name := "kind", desc := "()I" } : Jvm.MethodName)) ∈ lw_all := lw_g (lw_at lw_m4 179 rfl) rfl
theorem q1091 : (Jvm.Cond.instanceMethod ({ cls := "MirrorDoors$World", name := "whyNotTurn", desc := "(I)I" } : Jvm.MethodName)) ∈ lw_all := lw_g (lw_at lw_m5 21 rfl) rfl
theorem q1092 : (Jvm.Cond.selects "MirrorDoors$World" ({ cls := "MirrorDoors$World", name := "whyNotTurn", desc := "(I)I" } : Jvm.MethodName) ({ cls := "MirrorDoors$World", name := "whyNotTurn", desc := "(I)I" } : Jvm.MethodName)) ∈ lw_all := lw_g (lw_at lw_m5 22 rfl) rfl
theorem q1093 : (Jvm.Cond.code ({ cls := "MirrorDoors$World", name := "whyNotTurn", desc := "(I)I" } : Jvm.MethodName) prog_13_method_17_code (3 : Nat) (Option.some Jvm.ClassFile.FieldType.int)) ∈ lw_all := lw_g (lw_at lw_m5 23 rfl) rfl
theorem q1094 : (Jvm.Cond.methodLink "MirrorDoors$World" (108 : Nat) ({ cls := "MirrorDoors$World", name := "isOver", desc := "()Z" } : Jvm.MethodName)) ∈ lw_all := lw_g (lw_at lw_m5 24 rfl) rfl
theorem q1095 : (Jvm.Cond.instanceMethod ({ cls := "MirrorDoors$World", name := "isOver", desc := "()Z" } : Jvm.MethodName)) ∈ lw_all := lw_g (lw_at lw_m5 25 rfl) rfl
theorem q1096 : (Jvm.Cond.selects "MirrorDoors$World" ({ cls := "MirrorDoors$World", name := "isOver", desc := "()Z" } : Jvm.MethodName) ({ cls := "MirrorDoors$World", name := "isOver", desc := "()Z" } : Jvm.MethodName)) ∈ lw_all := lw_g (lw_at lw_m5 26 rfl) rfl
theorem q1097 : (Jvm.Cond.code ({ cls := "MirrorDoors$World", name := "isOver", desc := "()Z" } : Jvm.MethodName) prog_13_method_13_code (1 : Nat) (Option.some Jvm.ClassFile.FieldType.boolean)) ∈ lw_all := lw_g (lw_at lw_m5 27 rfl) rfl
theorem q1098 : (Jvm.Cond.methodLink "MirrorDoors$World" (104 : Nat) ({ cls := "MirrorDoors$World", name := "hasAll", desc := "(I)Z" } : Jvm.MethodName)) ∈ lw_all := lw_g (lw_at lw_m5 28 rfl) rfl
theorem q1099 : (Jvm.Cond.privateMethod ({ cls := "MirrorDoors$World", name := "hasAll", desc := "(I)Z" } : Jvm.MethodName)) ∈ lw_tbl := lw_at lw_m5 29 rfl
theorem q1100 : (Jvm.Cond.instanceMethod ({ cls := "MirrorDoors$World", name := "hasAll", desc := "(I)Z" } : Jvm.MethodName)) ∈ lw_all := lw_g (lw_at lw_m5 30 rfl) rfl
theorem q1101 : (Jvm.Cond.code ({ cls := "MirrorDoors$World", name := "hasAll", desc := "(I)Z" } : Jvm.MethodName) prog_13_method_12_code (2 : Nat) (Option.some Jvm.ClassFile.FieldType.boolean)) ∈ lw_all := lw_g (lw_at lw_m5 31 rfl) rfl
theorem q1102 : (Jvm.Cond.methodLink "MirrorDoors$World" (97 : Nat) ({ cls := "MirrorDoors$World", name := "doorsOf", desc := "(I)I" } : Jvm.MethodName)) ∈ lw_all := lw_g (lw_at lw_m5 32 rfl) rfl
theorem q1103 : (Jvm.Cond.privateMethod ({ cls := "MirrorDoors$World", name := "doorsOf", desc := "(I)I" } : Jvm.MethodName)) ∈ lw_tbl := lw_at lw_m5 33 rfl
theorem q1104 : (Jvm.Cond.instanceMethod ({ cls := "MirrorDoors$World", name := "doorsOf", desc := "(I)I" } : Jvm.MethodName)) ∈ lw_all := lw_g (lw_at lw_m5 34 rfl) rfl
theorem q1105 : (Jvm.Cond.code ({ cls := "MirrorDoors$World", name := "doorsOf", desc := "(I)I" } : Jvm.MethodName) prog_13_method_11_code (7 : Nat) (Option.some Jvm.ClassFile.FieldType.int)) ∈ lw_all := lw_g (lw_at lw_m5 35 rfl) rfl
theorem q1106 : (Jvm.Cond.methodLink "MirrorDoors$World" (90 : Nat) ({ cls := "MirrorDoors$Cell", name := "owner", desc := "()I" } : Jvm.MethodName)) ∈ lw_all := lw_g (lw_at lw_m5 36 rfl) rfl
theorem q1120 : (Jvm.Cond.methodLink "MirrorDoors$World" (101 : Nat) ({ cls := "MirrorDoors$World", name := "points", desc := "(I)I" } : Jvm.MethodName)) ∈ lw_all := lw_g (lw_at lw_m5 50 rfl) rfl
theorem q1121 : (Jvm.Cond.instanceMethod ({ cls := "MirrorDoors$World", name := "points", desc := "(I)I" } : Jvm.MethodName)) ∈ lw_all := lw_g (lw_at lw_m5 51 rfl) rfl
theorem q1122 : (Jvm.Cond.selects "MirrorDoors$World" ({ cls := "MirrorDoors$World", name := "points", desc := "(I)I" } : Jvm.MethodName) ({ cls := "MirrorDoors$World", name := "points", desc := "(I)I" } : Jvm.MethodName)) ∈ lw_all := lw_g (lw_at lw_m5 52 rfl) rfl
theorem q1123 : (Jvm.Cond.code ({ cls := "MirrorDoors$World", name := "points", desc := "(I)I" } : Jvm.MethodName) prog_13_method_10_code (7 : Nat) (Option.some Jvm.ClassFile.FieldType.int)) ∈ lw_all := lw_g (lw_at lw_m5 53 rfl) rfl
theorem q1124 : (Jvm.Cond.methodLink "MirrorDoors$World" (93 : Nat) ({ cls := "MirrorDoors$Door", name := "isOpen", desc := "()Z" } : Jvm.MethodName)) ∈ lw_all := lw_g (lw_at lw_m5 54 rfl) rfl
theorem q1128 : (Jvm.Cond.classLink "MirrorDoors$World" (74 : Nat) "MirrorDoors$Mirror") ∈ lw_all := lw_g (lw_at lw_m5 58 rfl) rfl
theorem q1129 : (Jvm.Cond.methodLink "MirrorDoors$World" (131 : Nat) ({ cls := "MirrorDoors$World", name := "mover", desc := "()I" } : Jvm.MethodName)) ∈ lw_all := lw_g (lw_at lw_m5 59 rfl) rfl
theorem q1130 : (Jvm.Cond.instanceMethod ({ cls := "MirrorDoors$World", name := "mover", desc := "()I" } : Jvm.MethodName)) ∈ lw_all := lw_g (lw_at lw_m5 60 rfl) rfl
theorem q1131 : (Jvm.Cond.selects "MirrorDoors$World" ({ cls := "MirrorDoors$World", name := "mover", desc := "()I" } : Jvm.MethodName) ({ cls := "MirrorDoors$World", name := "mover", desc := "()I" } : Jvm.MethodName)) ∈ lw_all := lw_g (lw_at lw_m5 61 rfl) rfl
theorem q1132 : (Jvm.Cond.code ({ cls := "MirrorDoors$World", name := "mover", desc := "()I" } : Jvm.MethodName) prog_13_method_9_code (1 : Nat) (Option.some Jvm.ClassFile.FieldType.int)) ∈ lw_all := lw_g (lw_at lw_m5 62 rfl) rfl
theorem q1134 : (Jvm.Cond.instanceMethod ({ cls := "MirrorDoors$World", name := "moves", desc := "(LMirrorDoors$Mirror;)I" } : Jvm.MethodName)) ∈ lw_all := lw_g (lw_at lw_m5 64 rfl) rfl
theorem q1135 : (Jvm.Cond.selects "MirrorDoors$World" ({ cls := "MirrorDoors$World", name := "moves", desc := "(LMirrorDoors$Mirror;)I" } : Jvm.MethodName) ({ cls := "MirrorDoors$World", name := "moves", desc := "(LMirrorDoors$Mirror;)I" } : Jvm.MethodName)) ∈ lw_all := lw_g (lw_at lw_m5 65 rfl) rfl
theorem q1136 : (Jvm.Cond.code ({ cls := "MirrorDoors$World", name := "moves", desc := "(LMirrorDoors$Mirror;)I" } : Jvm.MethodName) prog_13_method_19_code (7 : Nat) (Option.some Jvm.ClassFile.FieldType.int)) ∈ lw_all := lw_g (lw_at lw_m5 66 rfl) rfl
theorem q1137 : (Jvm.Cond.methodLink "MirrorDoors$World" (138 : Nat) ({ cls := "java/lang/Math", name := "max", desc := "(II)I" } : Jvm.MethodName)) ∈ lw_all := lw_g (lw_at lw_m5 67 rfl) rfl
theorem q1138 : (Jvm.Cond.methodLink "MirrorDoors$World" (150 : Nat) ({ cls := "MirrorDoors$World", name := "opens", desc := "()I" } : Jvm.MethodName)) ∈ lw_all := lw_g (lw_at lw_m5 68 rfl) rfl
theorem q1139 : (Jvm.Cond.privateMethod ({ cls := "MirrorDoors$World", name := "opens", desc := "()I" } : Jvm.MethodName)) ∈ lw_tbl := lw_at lw_m5 69 rfl
theorem q1140 : (Jvm.Cond.instanceMethod ({ cls := "MirrorDoors$World", name := "opens", desc := "()I" } : Jvm.MethodName)) ∈ lw_all := lw_g (lw_at lw_m5 70 rfl) rfl
theorem q1141 : (Jvm.Cond.code ({ cls := "MirrorDoors$World", name := "opens", desc := "()I" } : Jvm.MethodName) prog_13_method_20_code (6 : Nat) (Option.some Jvm.ClassFile.FieldType.int)) ∈ lw_all := lw_g (lw_at lw_m5 71 rfl) rfl
theorem q1214 : (Jvm.Cond.selects "MirrorDoors$World" ({ cls := "java/lang/Object", name := "getClass", desc := "()Ljava/lang/Class;" } : Jvm.MethodName) ({ cls := "java/lang/Object", name := "getClass", desc := "()Ljava/lang/Class;" } : Jvm.MethodName)) ∈ lw_all := lw_g (lw_at lw_m5 144 rfl) rfl
theorem q1233 : (Jvm.Cond.instanceMethod ({ cls := "MirrorDoors$World", name := "all", desc := "(Z)Ljava/util/ArrayList;" } : Jvm.MethodName)) ∈ lw_all := lw_g (lw_at lw_m5 163 rfl) rfl
theorem q1234 : (Jvm.Cond.selects "MirrorDoors$World" ({ cls := "MirrorDoors$World", name := "all", desc := "(Z)Ljava/util/ArrayList;" } : Jvm.MethodName) ({ cls := "MirrorDoors$World", name := "all", desc := "(Z)Ljava/util/ArrayList;" } : Jvm.MethodName)) ∈ lw_all := lw_g (lw_at lw_m5 164 rfl) rfl
theorem q1235 : (Jvm.Cond.code ({ cls := "MirrorDoors$World", name := "all", desc := "(Z)Ljava/util/ArrayList;" } : Jvm.MethodName) prog_13_method_7_code (7 : Nat) (Option.some (Jvm.ClassFile.FieldType.object "java/util/ArrayList"))) ∈ lw_all := lw_g (lw_at lw_m5 165 rfl) rfl
theorem q1236 : (Jvm.Cond.classLink "MirrorDoors$World" (71 : Nat) "java/util/ArrayList") ∈ lw_all := lw_g (lw_at lw_m5 166 rfl) rfl
theorem q1238 : (Jvm.Cond.methodLink "MirrorDoors$World" (73 : Nat) ({ cls := "java/util/ArrayList", name := "<init>", desc := "()V" } : Jvm.MethodName)) ∈ lw_all := lw_g (lw_at lw_m5 168 rfl) rfl
theorem q1259 : (Jvm.Cond.methodLink "MirrorDoors$World" (78 : Nat) ({ cls := "java/util/ArrayList", name := "add", desc := "(Ljava/lang/Object;)Z" } : Jvm.MethodName)) ∈ lw_all := lw_g (lw_at lw_m5 189 rfl) rfl
theorem q1289 : (Jvm.Cond.instanceMethod ({ cls := "MirrorDoors$World", name := "canTurn", desc := "()Z" } : Jvm.MethodName)) ∈ lw_all := lw_g (lw_at lw_m5 219 rfl) rfl
theorem q1290 : (Jvm.Cond.selects "MirrorDoors$World" ({ cls := "MirrorDoors$World", name := "canTurn", desc := "()Z" } : Jvm.MethodName) ({ cls := "MirrorDoors$World", name := "canTurn", desc := "()Z" } : Jvm.MethodName)) ∈ lw_all := lw_g (lw_at lw_m5 220 rfl) rfl
theorem q1291 : (Jvm.Cond.code ({ cls := "MirrorDoors$World", name := "canTurn", desc := "()Z" } : Jvm.MethodName) prog_13_method_18_code (5 : Nat) (Option.some Jvm.ClassFile.FieldType.boolean)) ∈ lw_all := lw_g (lw_at lw_m5 221 rfl) rfl
theorem q1292 : (Jvm.Cond.methodLink "MirrorDoors$World" (135 : Nat) ({ cls := "MirrorDoors$Mirror", name := "isFor", desc := "(I)Z" } : Jvm.MethodName)) ∈ lw_all := lw_g (lw_at lw_m5 222 rfl) rfl
theorem q1301 : (Jvm.Cond.instanceMethod ({ cls := "MirrorDoors$World", name := "<init>", desc := "(LMirrorDoors$World;)V" } : Jvm.MethodName)) ∈ lw_all := lw_g (lw_at lw_m5 231 rfl) rfl
theorem q1302 : (Jvm.Cond.code ({ cls := "MirrorDoors$World", name := "<init>", desc := "(LMirrorDoors$World;)V" } : Jvm.MethodName) prog_13_method_3_code (3 : Nat) (Option.none : Option Jvm.ClassFile.FieldType)) ∈ lw_all := lw_g (lw_at lw_m5 232 rfl) rfl
theorem q1303 : (Jvm.Cond.methodLink "MirrorDoors$World" (47 : Nat) ({ cls := "MirrorDoors$Cell", name := "twin", desc := "()LMirrorDoors$Cell;" } : Jvm.MethodName)) ∈ lw_all := lw_g (lw_at lw_m5 233 rfl) rfl
theorem q1507 : (Jvm.Cond.instanceMethod ({ cls := "MirrorDoors$World", name := "numberOf", desc := "(LMirrorDoors$Cell;)I" } : Jvm.MethodName)) ∈ lw_all := lw_g (lw_at lw_m6 197 rfl) rfl
theorem q1508 : (Jvm.Cond.selects "MirrorDoors$World" ({ cls := "MirrorDoors$World", name := "numberOf", desc := "(LMirrorDoors$Cell;)I" } : Jvm.MethodName) ({ cls := "MirrorDoors$World", name := "numberOf", desc := "(LMirrorDoors$Cell;)I" } : Jvm.MethodName)) ∈ lw_all := lw_g (lw_at lw_m6 198 rfl) rfl
theorem q1509 : (Jvm.Cond.code ({ cls := "MirrorDoors$World", name := "numberOf", desc := "(LMirrorDoors$Cell;)I" } : Jvm.MethodName) prog_13_method_8_code (2 : Nat) (Option.some Jvm.ClassFile.FieldType.int)) ∈ lw_all := lw_g (lw_at lw_m6 199 rfl) rfl
theorem q1510 : (Jvm.Cond.methodLink "MirrorDoors$World" (82 : Nat) ({ cls := "MirrorDoors$World", name := "all", desc := "(Z)Ljava/util/ArrayList;" } : Jvm.MethodName)) ∈ lw_all := lw_g (lw_at lw_m6 200 rfl) rfl
theorem q1511 : (Jvm.Cond.methodLink "MirrorDoors$World" (86 : Nat) ({ cls := "java/util/ArrayList", name := "indexOf", desc := "(Ljava/lang/Object;)I" } : Jvm.MethodName)) ∈ lw_all := lw_g (lw_at lw_m6 201 rfl) rfl
theorem q1533 : (Jvm.Cond.selects "MirrorDoors$World" ({ cls := "java/lang/Object", name := "equals", desc := "(Ljava/lang/Object;)Z" } : Jvm.MethodName) ({ cls := "java/lang/Object", name := "equals", desc := "(Ljava/lang/Object;)Z" } : Jvm.MethodName)) ∈ lw_all := lw_g (lw_at lw_m6 223 rfl) rfl
theorem q1637 : (Jvm.Cond.instanceMethod ({ cls := "MirrorDoors$World", name := "winner", desc := "()I" } : Jvm.MethodName)) ∈ lw_all := lw_g (lw_at lw_m7 87 rfl) rfl
theorem q1638 : (Jvm.Cond.selects "MirrorDoors$World" ({ cls := "MirrorDoors$World", name := "winner", desc := "()I" } : Jvm.MethodName) ({ cls := "MirrorDoors$World", name := "winner", desc := "()I" } : Jvm.MethodName)) ∈ lw_all := lw_g (lw_at lw_m7 88 rfl) rfl
theorem q1639 : (Jvm.Cond.code ({ cls := "MirrorDoors$World", name := "winner", desc := "()I" } : Jvm.MethodName) prog_13_method_14_code (2 : Nat) (Option.some Jvm.ClassFile.FieldType.int)) ∈ lw_all := lw_g (lw_at lw_m7 89 rfl) rfl
theorem q1707 : (Jvm.Cond.instanceMethod ({ cls := "MirrorDoors$World", name := "hits", desc := "()I" } : Jvm.MethodName)) ∈ lw_all := lw_g (lw_at lw_m7 157 rfl) rfl
theorem q1708 : (Jvm.Cond.selects "MirrorDoors$World" ({ cls := "MirrorDoors$World", name := "hits", desc := "()I" } : Jvm.MethodName) ({ cls := "MirrorDoors$World", name := "hits", desc := "()I" } : Jvm.MethodName)) ∈ lw_all := lw_g (lw_at lw_m7 158 rfl) rfl
theorem q1709 : (Jvm.Cond.code ({ cls := "MirrorDoors$World", name := "hits", desc := "()I" } : Jvm.MethodName) prog_13_method_21_code (7 : Nat) (Option.some Jvm.ClassFile.FieldType.int)) ∈ lw_all := lw_g (lw_at lw_m7 159 rfl) rfl
theorem q1751 : (Jvm.Cond.instanceMethod ({ cls := "MirrorDoors$World", name := "turns", desc := "(Ljava/util/ArrayList;I)V" } : Jvm.MethodName)) ∈ lw_all := lw_g (lw_at lw_m7 201 rfl) rfl
theorem q1752 : (Jvm.Cond.selects "MirrorDoors$World" ({ cls := "MirrorDoors$World", name := "turns", desc := "(Ljava/util/ArrayList;I)V" } : Jvm.MethodName) ({ cls := "MirrorDoors$World", name := "turns", desc := "(Ljava/util/ArrayList;I)V" } : Jvm.MethodName)) ∈ lw_all := lw_g (lw_at lw_m7 202 rfl) rfl
theorem q1753 : (Jvm.Cond.code ({ cls := "MirrorDoors$World", name := "turns", desc := "(Ljava/util/ArrayList;I)V" } : Jvm.MethodName) prog_13_method_26_code (5 : Nat) (Option.none : Option Jvm.ClassFile.FieldType)) ∈ lw_all := lw_g (lw_at lw_m7 203 rfl) rfl
theorem q1754 : (Jvm.Cond.methodLink "MirrorDoors$World" (177 : Nat) ({ cls := "java/util/ArrayList", name := "size", desc := "()I" } : Jvm.MethodName)) ∈ lw_all := lw_g (lw_at lw_m7 204 rfl) rfl
theorem q1755 : (Jvm.Cond.methodLink "MirrorDoors$World" (180 : Nat) ({ cls := "java/util/ArrayList", name := "get", desc := "(I)Ljava/lang/Object;" } : Jvm.MethodName)) ∈ lw_all := lw_g (lw_at lw_m7 205 rfl) rfl
theorem q1782 : (Jvm.Cond.instanceMethod ({ cls := "MirrorDoors$World", name := "worth", desc := "(I)I" } : Jvm.MethodName)) ∈ lw_all := lw_g (lw_at lw_m7 232 rfl) rfl
theorem q1783 : (Jvm.Cond.selects "MirrorDoors$World" ({ cls := "MirrorDoors$World", name := "worth", desc := "(I)I" } : Jvm.MethodName) ({ cls := "MirrorDoors$World", name := "worth", desc := "(I)I" } : Jvm.MethodName)) ∈ lw_all := lw_g (lw_at lw_m7 233 rfl) rfl
theorem q1784 : (Jvm.Cond.code ({ cls := "MirrorDoors$World", name := "worth", desc := "(I)I" } : Jvm.MethodName) prog_13_method_24_code (8 : Nat) (Option.some Jvm.ClassFile.FieldType.int)) ∈ lw_all := lw_g (lw_at lw_m7 234 rfl) rfl
theorem q1785 : (Jvm.Cond.methodLink "MirrorDoors$World" (153 : Nat) ({ cls := "MirrorDoors$World", name := "canTurn", desc := "()Z" } : Jvm.MethodName)) ∈ lw_all := lw_g (lw_at lw_m7 235 rfl) rfl
theorem q1786 : (Jvm.Cond.methodLink "MirrorDoors$World" (156 : Nat) ({ cls := "MirrorDoors$World", name := "worthBehind", desc := "(LMirrorDoors$Mirror;I)I" } : Jvm.MethodName)) ∈ lw_all := lw_g (lw_at lw_m7 236 rfl) rfl
theorem q1787 : (Jvm.Cond.instanceMethod ({ cls := "MirrorDoors$World", name := "worthBehind", desc := "(LMirrorDoors$Mirror;I)I" } : Jvm.MethodName)) ∈ lw_all := lw_g (lw_at lw_m7 237 rfl) rfl
theorem q1788 : (Jvm.Cond.selects "MirrorDoors$World" ({ cls := "MirrorDoors$World", name := "worthBehind", desc := "(LMirrorDoors$Mirror;I)I" } : Jvm.MethodName) ({ cls := "MirrorDoors$World", name := "worthBehind", desc := "(LMirrorDoors$Mirror;I)I" } : Jvm.MethodName)) ∈ lw_all := lw_g (lw_at lw_m7 238 rfl) rfl
theorem q1789 : (Jvm.Cond.code ({ cls := "MirrorDoors$World", name := "worthBehind", desc := "(LMirrorDoors$Mirror;I)I" } : Jvm.MethodName) prog_13_method_25_code (6 : Nat) (Option.some Jvm.ClassFile.FieldType.int)) ∈ lw_all := lw_g (lw_at lw_m7 239 rfl) rfl
theorem q1790 : (Jvm.Cond.methodLink "MirrorDoors$World" (163 : Nat) ({ cls := "MirrorDoors$World", name := "row", desc := "()[I" } : Jvm.MethodName)) ∈ lw_all := lw_g (lw_at lw_m8 0 rfl) rfl
theorem q1791 : (Jvm.Cond.privateMethod ({ cls := "MirrorDoors$World", name := "row", desc := "()[I" } : Jvm.MethodName)) ∈ lw_tbl := lw_at lw_m8 1 rfl
theorem q1792 : (Jvm.Cond.instanceMethod ({ cls := "MirrorDoors$World", name := "row", desc := "()[I" } : Jvm.MethodName)) ∈ lw_all := lw_g (lw_at lw_m8 2 rfl) rfl
theorem q1793 : (Jvm.Cond.code ({ cls := "MirrorDoors$World", name := "row", desc := "()[I" } : Jvm.MethodName) prog_13_method_22_code (7 : Nat) (Option.some (Jvm.ClassFile.FieldType.array Jvm.ClassFile.FieldType.int))) ∈ lw_all := lw_g (lw_at lw_m8 3 rfl) rfl
theorem q1794 : (Jvm.Cond.methodLink "MirrorDoors$World" (167 : Nat) ({ cls := "MirrorDoors$World", name := "moves", desc := "(LMirrorDoors$Mirror;)I" } : Jvm.MethodName)) ∈ lw_all := lw_g (lw_at lw_m8 4 rfl) rfl
theorem q1795 : (Jvm.Cond.methodLink "MirrorDoors$World" (170 : Nat) ({ cls := "MirrorDoors$World", name := "worth", desc := "(I)I" } : Jvm.MethodName)) ∈ lw_all := lw_g (lw_at lw_m8 5 rfl) rfl
theorem q1796 : (Jvm.Cond.methodLink "MirrorDoors$World" (173 : Nat) ({ cls := "MirrorDoors$World", name := "takesBack", desc := "(LMirrorDoors$Mirror;[II)V" } : Jvm.MethodName)) ∈ lw_all := lw_g (lw_at lw_m8 6 rfl) rfl
theorem q1797 : (Jvm.Cond.privateMethod ({ cls := "MirrorDoors$World", name := "takesBack", desc := "(LMirrorDoors$Mirror;[II)V" } : Jvm.MethodName)) ∈ lw_tbl := lw_at lw_m8 7 rfl
theorem q1798 : (Jvm.Cond.instanceMethod ({ cls := "MirrorDoors$World", name := "takesBack", desc := "(LMirrorDoors$Mirror;[II)V" } : Jvm.MethodName)) ∈ lw_all := lw_g (lw_at lw_m8 8 rfl) rfl
theorem q1799 : (Jvm.Cond.code ({ cls := "MirrorDoors$World", name := "takesBack", desc := "(LMirrorDoors$Mirror;[II)V" } : Jvm.MethodName) prog_13_method_23_code (9 : Nat) (Option.none : Option Jvm.ClassFile.FieldType)) ∈ lw_all := lw_g (lw_at lw_m8 9 rfl) rfl
theorem q1800 : (Jvm.Cond.constant "MirrorDoors$World" (162 : Nat) (-2147483648 : Int32)) ∈ lw_all := lw_g (lw_at lw_m8 10 rfl) rfl
theorem q2379 : (Jvm.Cond.castable "MirrorDoors$World" "java/lang/Object") ∈ lw_tbl := lw_at lw_m10 109 rfl
theorem in_X3 : ∀ w ∈ wsX30, w ∈ lw_all := lw_in wsX30 [262, 264, 266, 268, 270, 272, 274, 276, 278] (by decide +kernel) (by decide +kernel)

/-! MirrorDoors$Cell -/
set_option maxRecDepth 100000
def RX4 : String := "MirrorDoors$Cell"
abbrev cX4_init : ByteArray := prog_2_method_1_code
def yX4_init : MethodName := ⟨RX4, "<init>", "(I)V"⟩
def dkwX4_init_0 : List UInt8 := [42, 183, 0, 3, 42, 27, 181, 0, 9, 177]
abbrev dktX4_init_0 : List UInt8 := dkwX4_init_0 ++ []
theorem dksX4_init_0 : cX4_init.data.toList.drop 0 = dktX4_init_0 := by decide +kernel
theorem dX4_init_0 : decode cX4_init 0 = .ok (.aload_n 0, 1) := dk_42 (dk_at dksX4_init_0 0 rfl rfl)
theorem dX4_init_1 : decode cX4_init 1 = .ok (.invokespecial 3, 3) := dk_183 0 3 (dk_at dksX4_init_0 1 rfl rfl)
theorem dX4_init_4 : decode cX4_init 4 = .ok (.aload_n 0, 1) := dk_42 (dk_at dksX4_init_0 4 rfl rfl)
theorem dX4_init_5 : decode cX4_init 5 = .ok (.iload_n 1, 1) := dk_27 (dk_at dksX4_init_0 5 rfl rfl)
theorem dX4_init_6 : decode cX4_init 6 = .ok (.putfield 9, 3) := dk_181 0 9 (dk_at dksX4_init_0 6 rfl rfl)
theorem dX4_init_9 : decode cX4_init 9 = .ok (.return_, 1) := dk_177 (dk_at dksX4_init_0 9 rfl rfl)
abbrev cX4_form : ByteArray := prog_2_method_5_code
def yX4_form : MethodName := ⟨RX4, "form", "()I"⟩
theorem dX4_form_0 : decode cX4_form 0 = .ok (.iconst (-1), 1) := by decide +kernel
theorem dX4_form_1 : decode cX4_form 1 = .ok (.ireturn, 1) := by decide +kernel
abbrev cX4_owner : ByteArray := prog_2_method_6_code
def yX4_owner : MethodName := ⟨RX4, "owner", "()I"⟩
theorem dX4_owner_0 : decode cX4_owner 0 = .ok (.iconst (-1), 1) := by decide +kernel
theorem dX4_owner_1 : decode cX4_owner 1 = .ok (.ireturn, 1) := by decide +kernel
theorem q116 : (Jvm.Cond.initialized "MirrorDoors$Cell") ∈ lw_all := lw_g (lw_at lw_m1 6 rfl) rfl
theorem q287 : (Jvm.Cond.instanceMethod ({ cls := "MirrorDoors$Cell", name := "<init>", desc := "(I)V" } : Jvm.MethodName)) ∈ lw_all := lw_g (lw_at lw_m1 177 rfl) rfl
theorem q288 : (Jvm.Cond.code ({ cls := "MirrorDoors$Cell", name := "<init>", desc := "(I)V" } : Jvm.MethodName) prog_2_method_1_code (2 : Nat) (Option.none : Option Jvm.ClassFile.FieldType)) ∈ lw_all := lw_g (lw_at lw_m1 178 rfl) rfl
theorem q289 : (Jvm.Cond.methodLink "MirrorDoors$Cell" (3 : Nat) ({ cls := "java/lang/Object", name := "<init>", desc := "()V" } : Jvm.MethodName)) ∈ lw_all := lw_g (lw_at lw_m1 179 rfl) rfl
theorem q290 : (Jvm.Cond.fieldLink "MirrorDoors$Cell" (9 : Nat) "MirrorDoors$Cell" "at" "I") ∈ lw_all := lw_g (lw_at lw_m1 180 rfl) rfl
theorem q304 : (Jvm.Cond.soleField "MirrorDoors$Cell" "at") ∈ lw_all := lw_g (lw_at lw_m1 194 rfl) rfl
theorem q388 : (Jvm.Cond.instanceMethod ({ cls := "MirrorDoors$Cell", name := "form", desc := "()I" } : Jvm.MethodName)) ∈ lw_all := lw_g (lw_at lw_m2 38 rfl) rfl
theorem q389 : (Jvm.Cond.sameMethod "MirrorDoors$Cell" "MirrorDoors$Cell" "form" "()I") ∈ lw_all := lw_g (lw_at lw_m2 39 rfl) rfl
theorem q404 : (Jvm.Cond.code ({ cls := "MirrorDoors$Cell", name := "form", desc := "()I" } : Jvm.MethodName) prog_2_method_5_code (1 : Nat) (Option.some Jvm.ClassFile.FieldType.int)) ∈ lw_all := lw_g (lw_at lw_m2 54 rfl) rfl
theorem q429 : (Jvm.Cond.declares ({ cls := "MirrorDoors$Cell", name := "passes", desc := "(ILMirrorDoors$Sink;)V" } : Jvm.MethodName)) ∈ lw_tbl := lw_at lw_m2 79 rfl
theorem q430 : (Jvm.Cond.sameMethod "MirrorDoors$Cell" "MirrorDoors$Cell" "passes" "(ILMirrorDoors$Sink;)V") ∈ lw_all := lw_g (lw_at lw_m2 80 rfl) rfl
theorem q1010 : (Jvm.Cond.declares ({ cls := "MirrorDoors$Cell", name := "kind", desc := "()I" } : Jvm.MethodName)) ∈ lw_tbl := lw_at lw_m4 180 rfl
theorem q1011 : (Jvm.Cond.sameMethod "MirrorDoors$Cell" "MirrorDoors$Cell" "kind" "()I") ∈ lw_all := lw_g (lw_at lw_m4 181 rfl) rfl
theorem q1107 : (Jvm.Cond.instanceMethod ({ cls := "MirrorDoors$Cell", name := "owner", desc := "()I" } : Jvm.MethodName)) ∈ lw_all := lw_g (lw_at lw_m5 37 rfl) rfl
theorem q1108 : (Jvm.Cond.sameMethod "MirrorDoors$Cell" "MirrorDoors$Cell" "owner" "()I") ∈ lw_all := lw_g (lw_at lw_m5 38 rfl) rfl
theorem q1119 : (Jvm.Cond.code ({ cls := "MirrorDoors$Cell", name := "owner", desc := "()I" } : Jvm.MethodName) prog_2_method_6_code (1 : Nat) (Option.some Jvm.ClassFile.FieldType.int)) ∈ lw_all := lw_g (lw_at lw_m5 49 rfl) rfl
theorem q1304 : (Jvm.Cond.declares ({ cls := "MirrorDoors$Cell", name := "twin", desc := "()LMirrorDoors$Cell;" } : Jvm.MethodName)) ∈ lw_tbl := lw_at lw_m5 234 rfl
theorem q1305 : (Jvm.Cond.sameMethod "MirrorDoors$Cell" "MirrorDoors$Cell" "twin" "()LMirrorDoors$Cell;") ∈ lw_all := lw_g (lw_at lw_m5 235 rfl) rfl
theorem q2380 : (Jvm.Cond.castable "MirrorDoors$Cell" "java/lang/Object") ∈ lw_tbl := lw_at lw_m10 110 rfl

/-! MirrorDoors$Empty -/
set_option maxRecDepth 100000
def RX5 : String := "MirrorDoors$Empty"
def TX5 : u_T := fun k => match k with
  | _ => ("MirrorDoors$Cell", "at", "I", true)
def tyX5 : Nat → FieldType := fun k => match k with
  | _ => .int
abbrev wsX50 : List Cond := u_ws RX5 TX5 1
theorem nmX5 : ∀ a, a < 1 → ∀ b, b < 1 → a ≠ b → (TX5 a).2.1 ≠ (TX5 b).2.1 := by decide +kernel
theorem tyX5_ok : ∀ k, k < 1 → parseFieldDescriptor (TX5 k).2.2.1 = some (tyX5 k) := by decide +kernel
abbrev cX5_init : ByteArray := prog_4_method_1_code
def yX5_init : MethodName := ⟨RX5, "<init>", "(I)V"⟩
def dkwX5_init_0 : List UInt8 := [42, 27, 183, 0, 1, 177]
abbrev dktX5_init_0 : List UInt8 := dkwX5_init_0 ++ []
theorem dksX5_init_0 : cX5_init.data.toList.drop 0 = dktX5_init_0 := by decide +kernel
theorem dX5_init_0 : decode cX5_init 0 = .ok (.aload_n 0, 1) := dk_42 (dk_at dksX5_init_0 0 rfl rfl)
theorem dX5_init_1 : decode cX5_init 1 = .ok (.iload_n 1, 1) := dk_27 (dk_at dksX5_init_0 1 rfl rfl)
theorem dX5_init_2 : decode cX5_init 2 = .ok (.invokespecial 1, 3) := dk_183 0 1 (dk_at dksX5_init_0 2 rfl rfl)
theorem dX5_init_5 : decode cX5_init 5 = .ok (.return_, 1) := dk_177 (dk_at dksX5_init_0 5 rfl rfl)
abbrev cX5_passes : ByteArray := prog_4_method_4_code
def yX5_passes : MethodName := ⟨RX5, "passes", "(ILMirrorDoors$Sink;)V"⟩
def dkwX5_passes_0 : List UInt8 := [44, 42, 180, 0, 7, 27, 185, 0, 13, 3, 0, 177]
abbrev dktX5_passes_0 : List UInt8 := dkwX5_passes_0 ++ []
theorem dksX5_passes_0 : cX5_passes.data.toList.drop 0 = dktX5_passes_0 := by decide +kernel
theorem dX5_passes_0 : decode cX5_passes 0 = .ok (.aload_n 2, 1) := dk_44 (dk_at dksX5_passes_0 0 rfl rfl)
theorem dX5_passes_1 : decode cX5_passes 1 = .ok (.aload_n 0, 1) := dk_42 (dk_at dksX5_passes_0 1 rfl rfl)
theorem dX5_passes_2 : decode cX5_passes 2 = .ok (.getfield 7, 3) := dk_180 0 7 (dk_at dksX5_passes_0 2 rfl rfl)
theorem dX5_passes_5 : decode cX5_passes 5 = .ok (.iload_n 1, 1) := dk_27 (dk_at dksX5_passes_0 5 rfl rfl)
theorem dX5_passes_6 : decode cX5_passes 6 = .ok (.invokeinterface 13 3, 5) := by decide +kernel
theorem dX5_passes_11 : decode cX5_passes 11 = .ok (.return_, 1) := dk_177 (dk_at dksX5_passes_0 11 rfl rfl)
abbrev cX5_kind : ByteArray := prog_4_method_2_code
def yX5_kind : MethodName := ⟨RX5, "kind", "()I"⟩
theorem dX5_kind_0 : decode cX5_kind 0 = .ok (.iconst 0, 1) := by decide +kernel
theorem dX5_kind_1 : decode cX5_kind 1 = .ok (.ireturn, 1) := by decide +kernel
abbrev cX5_twin : ByteArray := prog_4_method_3_code
def yX5_twin : MethodName := ⟨RX5, "twin", "()LMirrorDoors$Cell;"⟩
theorem dX5_twin_0 : decode cX5_twin 0 = .ok (.aload_n 0, 1) := by decide +kernel
theorem dX5_twin_1 : decode cX5_twin 1 = .ok (.areturn, 1) := by decide +kernel
theorem q117 : (Jvm.Cond.initialized "MirrorDoors$Empty") ∈ lw_all := lw_g (lw_at lw_m1 7 rfl) rfl
theorem q282 : (Jvm.Cond.instantiable "MirrorDoors$Empty" (1 : Nat)) ∈ lw_all := lw_g (lw_at lw_m1 172 rfl) rfl
theorem q284 : (Jvm.Cond.instanceMethod ({ cls := "MirrorDoors$Empty", name := "<init>", desc := "(I)V" } : Jvm.MethodName)) ∈ lw_all := lw_g (lw_at lw_m1 174 rfl) rfl
theorem q285 : (Jvm.Cond.code ({ cls := "MirrorDoors$Empty", name := "<init>", desc := "(I)V" } : Jvm.MethodName) prog_4_method_1_code (2 : Nat) (Option.none : Option Jvm.ClassFile.FieldType)) ∈ lw_all := lw_g (lw_at lw_m1 175 rfl) rfl
theorem q286 : (Jvm.Cond.methodLink "MirrorDoors$Empty" (1 : Nat) ({ cls := "MirrorDoors$Cell", name := "<init>", desc := "(I)V" } : Jvm.MethodName)) ∈ lw_all := lw_g (lw_at lw_m1 176 rfl) rfl
theorem q295 : (Jvm.Cond.fieldLink "MirrorDoors$Empty" (7 : Nat) "MirrorDoors$Empty" "at" "I") ∈ lw_all := lw_g (lw_at lw_m1 185 rfl) rfl
theorem q296 : (Jvm.Cond.sameField "MirrorDoors$Empty" "MirrorDoors$Cell" "at" "I") ∈ lw_all := lw_g (lw_at lw_m1 186 rfl) rfl
theorem q303 : (Jvm.Cond.laysFinal "MirrorDoors$Empty" "MirrorDoors$Cell" "at" "I") ∈ lw_all := lw_g (lw_at lw_m1 193 rfl) rfl
theorem q305 : (Jvm.Cond.superclass "MirrorDoors$Empty" "MirrorDoors$Cell") ∈ lw_all := lw_g (lw_at lw_m1 195 rfl) rfl
theorem q391 : (Jvm.Cond.selects "MirrorDoors$Empty" ({ cls := "MirrorDoors$Cell", name := "form", desc := "()I" } : Jvm.MethodName) ({ cls := "MirrorDoors$Cell", name := "form", desc := "()I" } : Jvm.MethodName)) ∈ lw_all := lw_g (lw_at lw_m2 41 rfl) rfl
theorem q434 : (Jvm.Cond.selects "MirrorDoors$Empty" ({ cls := "MirrorDoors$Cell", name := "passes", desc := "(ILMirrorDoors$Sink;)V" } : Jvm.MethodName) ({ cls := "MirrorDoors$Empty", name := "passes", desc := "(ILMirrorDoors$Sink;)V" } : Jvm.MethodName)) ∈ lw_all := lw_g (lw_at lw_m2 84 rfl) rfl
theorem q435 : (Jvm.Cond.instanceMethod ({ cls := "MirrorDoors$Empty", name := "passes", desc := "(ILMirrorDoors$Sink;)V" } : Jvm.MethodName)) ∈ lw_all := lw_g (lw_at lw_m2 85 rfl) rfl
theorem q436 : (Jvm.Cond.code ({ cls := "MirrorDoors$Empty", name := "passes", desc := "(ILMirrorDoors$Sink;)V" } : Jvm.MethodName) prog_4_method_4_code (3 : Nat) (Option.none : Option Jvm.ClassFile.FieldType)) ∈ lw_all := lw_g (lw_at lw_m2 86 rfl) rfl
theorem q437 : (Jvm.Cond.interfaceEntry "MirrorDoors$Empty" (13 : Nat)) ∈ lw_tbl := lw_at lw_m2 87 rfl
theorem q438 : (Jvm.Cond.methodLink "MirrorDoors$Empty" (13 : Nat) ({ cls := "MirrorDoors$Sink", name := "goes", desc := "(II)V" } : Jvm.MethodName)) ∈ lw_all := lw_g (lw_at lw_m2 88 rfl) rfl
theorem q1015 : (Jvm.Cond.selects "MirrorDoors$Empty" ({ cls := "MirrorDoors$Cell", name := "kind", desc := "()I" } : Jvm.MethodName) ({ cls := "MirrorDoors$Empty", name := "kind", desc := "()I" } : Jvm.MethodName)) ∈ lw_all := lw_g (lw_at lw_m4 185 rfl) rfl
theorem q1016 : (Jvm.Cond.instanceMethod ({ cls := "MirrorDoors$Empty", name := "kind", desc := "()I" } : Jvm.MethodName)) ∈ lw_all := lw_g (lw_at lw_m4 186 rfl) rfl
theorem q1017 : (Jvm.Cond.code ({ cls := "MirrorDoors$Empty", name := "kind", desc := "()I" } : Jvm.MethodName) prog_4_method_2_code (1 : Nat) (Option.some Jvm.ClassFile.FieldType.int)) ∈ lw_all := lw_g (lw_at lw_m4 187 rfl) rfl
theorem q1112 : (Jvm.Cond.selects "MirrorDoors$Empty" ({ cls := "MirrorDoors$Cell", name := "owner", desc := "()I" } : Jvm.MethodName) ({ cls := "MirrorDoors$Cell", name := "owner", desc := "()I" } : Jvm.MethodName)) ∈ lw_all := lw_g (lw_at lw_m5 42 rfl) rfl
theorem q1206 : (Jvm.Cond.selects "MirrorDoors$Empty" ({ cls := "java/lang/Object", name := "getClass", desc := "()Ljava/lang/Class;" } : Jvm.MethodName) ({ cls := "java/lang/Object", name := "getClass", desc := "()Ljava/lang/Class;" } : Jvm.MethodName)) ∈ lw_all := lw_g (lw_at lw_m5 136 rfl) rfl
theorem q1311 : (Jvm.Cond.selects "MirrorDoors$Empty" ({ cls := "MirrorDoors$Cell", name := "twin", desc := "()LMirrorDoors$Cell;" } : Jvm.MethodName) ({ cls := "MirrorDoors$Empty", name := "twin", desc := "()LMirrorDoors$Cell;" } : Jvm.MethodName)) ∈ lw_all := lw_g (lw_at lw_m6 1 rfl) rfl
theorem q1312 : (Jvm.Cond.instanceMethod ({ cls := "MirrorDoors$Empty", name := "twin", desc := "()LMirrorDoors$Cell;" } : Jvm.MethodName)) ∈ lw_all := lw_g (lw_at lw_m6 2 rfl) rfl
theorem q1313 : (Jvm.Cond.code ({ cls := "MirrorDoors$Empty", name := "twin", desc := "()LMirrorDoors$Cell;" } : Jvm.MethodName) prog_4_method_3_code (1 : Nat) (Option.some (Jvm.ClassFile.FieldType.object "MirrorDoors$Cell"))) ∈ lw_all := lw_g (lw_at lw_m6 3 rfl) rfl
theorem q1525 : (Jvm.Cond.selects "MirrorDoors$Empty" ({ cls := "java/lang/Object", name := "equals", desc := "(Ljava/lang/Object;)Z" } : Jvm.MethodName) ({ cls := "java/lang/Object", name := "equals", desc := "(Ljava/lang/Object;)Z" } : Jvm.MethodName)) ∈ lw_all := lw_g (lw_at lw_m6 215 rfl) rfl
theorem q2374 : (Jvm.Cond.castable "MirrorDoors$Empty" "MirrorDoors$Cell") ∈ lw_tbl := lw_at lw_m10 104 rfl
theorem q2384 : (Jvm.Cond.castable "MirrorDoors$Empty" "java/lang/Object") ∈ lw_tbl := lw_at lw_m10 114 rfl
theorem in_X5 : ∀ w ∈ wsX50, w ∈ lw_all := lw_in wsX50 [303] (by decide +kernel) (by decide +kernel)

/-! MirrorDoors$Solid -/
set_option maxRecDepth 100000
def RX6 : String := "MirrorDoors$Solid"
def TX6 : u_T := fun k => match k with
  | 0 => ("MirrorDoors$Cell", "at", "I", true)
  | _ => ("MirrorDoors$Solid", "direction", "I", true)
def tyX6 : Nat → FieldType := fun k => match k with
  | 0 => .int
  | _ => .int
abbrev wsX60 : List Cond := u_ws RX6 TX6 2
theorem nmX6 : ∀ a, a < 2 → ∀ b, b < 2 → a ≠ b → (TX6 a).2.1 ≠ (TX6 b).2.1 := by decide +kernel
theorem tyX6_ok : ∀ k, k < 2 → parseFieldDescriptor (TX6 k).2.2.1 = some (tyX6 k) := by decide +kernel
abbrev cX6_init : ByteArray := prog_11_method_2_code
def yX6_init : MethodName := ⟨RX6, "<init>", "(II)V"⟩
def dkwX6_init_0 : List UInt8 := [42, 27, 183, 0, 9, 42, 28, 181, 0, 14, 177]
abbrev dktX6_init_0 : List UInt8 := dkwX6_init_0 ++ []
theorem dksX6_init_0 : cX6_init.data.toList.drop 0 = dktX6_init_0 := by decide +kernel
theorem dX6_init_0 : decode cX6_init 0 = .ok (.aload_n 0, 1) := dk_42 (dk_at dksX6_init_0 0 rfl rfl)
theorem dX6_init_1 : decode cX6_init 1 = .ok (.iload_n 1, 1) := dk_27 (dk_at dksX6_init_0 1 rfl rfl)
theorem dX6_init_2 : decode cX6_init 2 = .ok (.invokespecial 9, 3) := dk_183 0 9 (dk_at dksX6_init_0 2 rfl rfl)
theorem dX6_init_5 : decode cX6_init 5 = .ok (.aload_n 0, 1) := dk_42 (dk_at dksX6_init_0 5 rfl rfl)
theorem dX6_init_6 : decode cX6_init 6 = .ok (.iload_n 2, 1) := dk_28 (dk_at dksX6_init_0 6 rfl rfl)
theorem dX6_init_7 : decode cX6_init 7 = .ok (.putfield 14, 3) := dk_181 0 14 (dk_at dksX6_init_0 7 rfl rfl)
theorem dX6_init_10 : decode cX6_init 10 = .ok (.return_, 1) := dk_177 (dk_at dksX6_init_0 10 rfl rfl)
abbrev cX6_form : ByteArray := prog_11_method_6_code
def yX6_form : MethodName := ⟨RX6, "form", "()I"⟩
theorem dX6_form_0 : decode cX6_form 0 = .ok (.aload_n 0, 1) := by decide +kernel
theorem dX6_form_1 : decode cX6_form 1 = .ok (.getfield 14, 3) := by decide +kernel
theorem dX6_form_4 : decode cX6_form 4 = .ok (.ireturn, 1) := by decide +kernel
abbrev cX6_passes : ByteArray := prog_11_method_5_code
def yX6_passes : MethodName := ⟨RX6, "passes", "(ILMirrorDoors$Sink;)V"⟩
theorem dX6_passes_0 : decode cX6_passes 0 = .ok (.return_, 1) := by decide +kernel
abbrev cX6_kind : ByteArray := prog_11_method_3_code
def yX6_kind : MethodName := ⟨RX6, "kind", "()I"⟩
def dkwX6_kind_0 : List UInt8 := [42, 180, 0, 14, 2, 160, 0, 7, 4, 167, 0, 5, 16, 7, 172]
abbrev dktX6_kind_0 : List UInt8 := dkwX6_kind_0 ++ []
theorem dksX6_kind_0 : cX6_kind.data.toList.drop 0 = dktX6_kind_0 := by decide +kernel
theorem dX6_kind_0 : decode cX6_kind 0 = .ok (.aload_n 0, 1) := dk_42 (dk_at dksX6_kind_0 0 rfl rfl)
theorem dX6_kind_1 : decode cX6_kind 1 = .ok (.getfield 14, 3) := dk_180 0 14 (dk_at dksX6_kind_0 1 rfl rfl)
theorem dX6_kind_4 : decode cX6_kind 4 = .ok (.iconst (-1), 1) := dk_2 (dk_at dksX6_kind_0 4 rfl rfl)
theorem dX6_kind_5 : decode cX6_kind 5 = .ok (.if_icmp .ne 7, 3) := dk_160 0 7 (dk_at dksX6_kind_0 5 rfl rfl)
theorem dX6_kind_8 : decode cX6_kind 8 = .ok (.iconst 1, 1) := dk_4 (dk_at dksX6_kind_0 8 rfl rfl)
theorem dX6_kind_9 : decode cX6_kind 9 = .ok (.goto 5, 3) := dk_167 0 5 (dk_at dksX6_kind_0 9 rfl rfl)
theorem dX6_kind_12 : decode cX6_kind 12 = .ok (.bipush 7, 2) := dk_16 7 (dk_at dksX6_kind_0 12 rfl rfl)
theorem dX6_kind_14 : decode cX6_kind 14 = .ok (.ireturn, 1) := dk_172 (dk_at dksX6_kind_0 14 rfl rfl)
abbrev cX6_init_2 : ByteArray := prog_11_method_1_code
def yX6_init_2 : MethodName := ⟨RX6, "<init>", "(I)V"⟩
def dkwX6_init_2_0 : List UInt8 := [42, 27, 2, 183, 0, 3, 177]
abbrev dktX6_init_2_0 : List UInt8 := dkwX6_init_2_0 ++ []
theorem dksX6_init_2_0 : cX6_init_2.data.toList.drop 0 = dktX6_init_2_0 := by decide +kernel
theorem dX6_init_2_0 : decode cX6_init_2 0 = .ok (.aload_n 0, 1) := dk_42 (dk_at dksX6_init_2_0 0 rfl rfl)
theorem dX6_init_2_1 : decode cX6_init_2 1 = .ok (.iload_n 1, 1) := dk_27 (dk_at dksX6_init_2_0 1 rfl rfl)
theorem dX6_init_2_2 : decode cX6_init_2 2 = .ok (.iconst (-1), 1) := dk_2 (dk_at dksX6_init_2_0 2 rfl rfl)
theorem dX6_init_2_3 : decode cX6_init_2 3 = .ok (.invokespecial 3, 3) := dk_183 0 3 (dk_at dksX6_init_2_0 3 rfl rfl)
theorem dX6_init_2_6 : decode cX6_init_2 6 = .ok (.return_, 1) := dk_177 (dk_at dksX6_init_2_0 6 rfl rfl)
abbrev cX6_twin : ByteArray := prog_11_method_4_code
def yX6_twin : MethodName := ⟨RX6, "twin", "()LMirrorDoors$Cell;"⟩
theorem dX6_twin_0 : decode cX6_twin 0 = .ok (.aload_n 0, 1) := by decide +kernel
theorem dX6_twin_1 : decode cX6_twin 1 = .ok (.areturn, 1) := by decide +kernel
theorem q118 : (Jvm.Cond.initialized "MirrorDoors$Solid") ∈ lw_all := lw_g (lw_at lw_m1 8 rfl) rfl
theorem q307 : (Jvm.Cond.instantiable "MirrorDoors$Solid" (2 : Nat)) ∈ lw_all := lw_g (lw_at lw_m1 197 rfl) rfl
theorem q309 : (Jvm.Cond.instanceMethod ({ cls := "MirrorDoors$Solid", name := "<init>", desc := "(II)V" } : Jvm.MethodName)) ∈ lw_all := lw_g (lw_at lw_m1 199 rfl) rfl
theorem q310 : (Jvm.Cond.code ({ cls := "MirrorDoors$Solid", name := "<init>", desc := "(II)V" } : Jvm.MethodName) prog_11_method_2_code (3 : Nat) (Option.none : Option Jvm.ClassFile.FieldType)) ∈ lw_all := lw_g (lw_at lw_m1 200 rfl) rfl
theorem q311 : (Jvm.Cond.methodLink "MirrorDoors$Solid" (9 : Nat) ({ cls := "MirrorDoors$Cell", name := "<init>", desc := "(I)V" } : Jvm.MethodName)) ∈ lw_all := lw_g (lw_at lw_m1 201 rfl) rfl
theorem q312 : (Jvm.Cond.fieldLink "MirrorDoors$Solid" (14 : Nat) "MirrorDoors$Solid" "direction" "I") ∈ lw_all := lw_g (lw_at lw_m1 202 rfl) rfl
theorem q313 : (Jvm.Cond.laysFinal "MirrorDoors$Solid" "MirrorDoors$Solid" "direction" "I") ∈ lw_all := lw_g (lw_at lw_m1 203 rfl) rfl
theorem q314 : (Jvm.Cond.soleField "MirrorDoors$Solid" "direction") ∈ lw_all := lw_g (lw_at lw_m1 204 rfl) rfl
theorem q315 : (Jvm.Cond.laysFinal "MirrorDoors$Solid" "MirrorDoors$Cell" "at" "I") ∈ lw_all := lw_g (lw_at lw_m1 205 rfl) rfl
theorem q316 : (Jvm.Cond.superclass "MirrorDoors$Solid" "MirrorDoors$Cell") ∈ lw_all := lw_g (lw_at lw_m1 206 rfl) rfl
theorem q401 : (Jvm.Cond.selects "MirrorDoors$Solid" ({ cls := "MirrorDoors$Cell", name := "form", desc := "()I" } : Jvm.MethodName) ({ cls := "MirrorDoors$Solid", name := "form", desc := "()I" } : Jvm.MethodName)) ∈ lw_all := lw_g (lw_at lw_m2 51 rfl) rfl
theorem q402 : (Jvm.Cond.instanceMethod ({ cls := "MirrorDoors$Solid", name := "form", desc := "()I" } : Jvm.MethodName)) ∈ lw_all := lw_g (lw_at lw_m2 52 rfl) rfl
theorem q403 : (Jvm.Cond.code ({ cls := "MirrorDoors$Solid", name := "form", desc := "()I" } : Jvm.MethodName) prog_11_method_6_code (1 : Nat) (Option.some Jvm.ClassFile.FieldType.int)) ∈ lw_all := lw_g (lw_at lw_m2 53 rfl) rfl
theorem q460 : (Jvm.Cond.selects "MirrorDoors$Solid" ({ cls := "MirrorDoors$Cell", name := "passes", desc := "(ILMirrorDoors$Sink;)V" } : Jvm.MethodName) ({ cls := "MirrorDoors$Solid", name := "passes", desc := "(ILMirrorDoors$Sink;)V" } : Jvm.MethodName)) ∈ lw_all := lw_g (lw_at lw_m2 110 rfl) rfl
theorem q461 : (Jvm.Cond.instanceMethod ({ cls := "MirrorDoors$Solid", name := "passes", desc := "(ILMirrorDoors$Sink;)V" } : Jvm.MethodName)) ∈ lw_all := lw_g (lw_at lw_m2 111 rfl) rfl
theorem q462 : (Jvm.Cond.code ({ cls := "MirrorDoors$Solid", name := "passes", desc := "(ILMirrorDoors$Sink;)V" } : Jvm.MethodName) prog_11_method_5_code (3 : Nat) (Option.none : Option Jvm.ClassFile.FieldType)) ∈ lw_all := lw_g (lw_at lw_m2 112 rfl) rfl
theorem q1027 : (Jvm.Cond.selects "MirrorDoors$Solid" ({ cls := "MirrorDoors$Cell", name := "kind", desc := "()I" } : Jvm.MethodName) ({ cls := "MirrorDoors$Solid", name := "kind", desc := "()I" } : Jvm.MethodName)) ∈ lw_all := lw_g (lw_at lw_m4 197 rfl) rfl
theorem q1028 : (Jvm.Cond.instanceMethod ({ cls := "MirrorDoors$Solid", name := "kind", desc := "()I" } : Jvm.MethodName)) ∈ lw_all := lw_g (lw_at lw_m4 198 rfl) rfl
theorem q1029 : (Jvm.Cond.code ({ cls := "MirrorDoors$Solid", name := "kind", desc := "()I" } : Jvm.MethodName) prog_11_method_3_code (1 : Nat) (Option.some Jvm.ClassFile.FieldType.int)) ∈ lw_all := lw_g (lw_at lw_m4 199 rfl) rfl
theorem q1041 : (Jvm.Cond.instanceMethod ({ cls := "MirrorDoors$Solid", name := "<init>", desc := "(I)V" } : Jvm.MethodName)) ∈ lw_all := lw_g (lw_at lw_m4 211 rfl) rfl
theorem q1042 : (Jvm.Cond.code ({ cls := "MirrorDoors$Solid", name := "<init>", desc := "(I)V" } : Jvm.MethodName) prog_11_method_1_code (2 : Nat) (Option.none : Option Jvm.ClassFile.FieldType)) ∈ lw_all := lw_g (lw_at lw_m4 212 rfl) rfl
theorem q1043 : (Jvm.Cond.methodLink "MirrorDoors$Solid" (3 : Nat) ({ cls := "MirrorDoors$Solid", name := "<init>", desc := "(II)V" } : Jvm.MethodName)) ∈ lw_all := lw_g (lw_at lw_m4 213 rfl) rfl
theorem q1118 : (Jvm.Cond.selects "MirrorDoors$Solid" ({ cls := "MirrorDoors$Cell", name := "owner", desc := "()I" } : Jvm.MethodName) ({ cls := "MirrorDoors$Cell", name := "owner", desc := "()I" } : Jvm.MethodName)) ∈ lw_all := lw_g (lw_at lw_m5 48 rfl) rfl
theorem q1212 : (Jvm.Cond.selects "MirrorDoors$Solid" ({ cls := "java/lang/Object", name := "getClass", desc := "()Ljava/lang/Class;" } : Jvm.MethodName) ({ cls := "java/lang/Object", name := "getClass", desc := "()Ljava/lang/Class;" } : Jvm.MethodName)) ∈ lw_all := lw_g (lw_at lw_m5 142 rfl) rfl
theorem q1325 : (Jvm.Cond.selects "MirrorDoors$Solid" ({ cls := "MirrorDoors$Cell", name := "twin", desc := "()LMirrorDoors$Cell;" } : Jvm.MethodName) ({ cls := "MirrorDoors$Solid", name := "twin", desc := "()LMirrorDoors$Cell;" } : Jvm.MethodName)) ∈ lw_all := lw_g (lw_at lw_m6 15 rfl) rfl
theorem q1326 : (Jvm.Cond.instanceMethod ({ cls := "MirrorDoors$Solid", name := "twin", desc := "()LMirrorDoors$Cell;" } : Jvm.MethodName)) ∈ lw_all := lw_g (lw_at lw_m6 16 rfl) rfl
theorem q1327 : (Jvm.Cond.code ({ cls := "MirrorDoors$Solid", name := "twin", desc := "()LMirrorDoors$Cell;" } : Jvm.MethodName) prog_11_method_4_code (1 : Nat) (Option.some (Jvm.ClassFile.FieldType.object "MirrorDoors$Cell"))) ∈ lw_all := lw_g (lw_at lw_m6 17 rfl) rfl
theorem q1531 : (Jvm.Cond.selects "MirrorDoors$Solid" ({ cls := "java/lang/Object", name := "equals", desc := "(Ljava/lang/Object;)Z" } : Jvm.MethodName) ({ cls := "java/lang/Object", name := "equals", desc := "(Ljava/lang/Object;)Z" } : Jvm.MethodName)) ∈ lw_all := lw_g (lw_at lw_m6 221 rfl) rfl
theorem q2378 : (Jvm.Cond.castable "MirrorDoors$Solid" "MirrorDoors$Cell") ∈ lw_tbl := lw_at lw_m10 108 rfl
theorem q2385 : (Jvm.Cond.castable "MirrorDoors$Solid" "java/lang/Object") ∈ lw_tbl := lw_at lw_m10 115 rfl
theorem in_X6 : ∀ w ∈ wsX60, w ∈ lw_all := lw_in wsX60 [315, 313] (by decide +kernel) (by decide +kernel)

/-! MirrorDoors$Mirror -/
set_option maxRecDepth 100000
def RX7 : String := "MirrorDoors$Mirror"
def TX7 : u_T := fun k => match k with
  | 0 => ("MirrorDoors$Cell", "at", "I", true)
  | 1 => ("MirrorDoors$Mirror", "half", "Z", true)
  | 2 => ("MirrorDoors$Mirror", "owner", "I", true)
  | 3 => ("MirrorDoors$Mirror", "slant", "I", false)
  | 4 => ("MirrorDoors$Mirror", "lock", "I", false)
  | _ => ("MirrorDoors$Mirror", "turns", "I", false)
def tyX7 : Nat → FieldType := fun k => match k with
  | 0 => .int
  | 1 => .boolean
  | 2 => .int
  | 3 => .int
  | 4 => .int
  | _ => .int
abbrev wsX70 : List Cond := u_ws RX7 TX7 6
theorem nmX7 : ∀ a, a < 6 → ∀ b, b < 6 → a ≠ b → (TX7 a).2.1 ≠ (TX7 b).2.1 := by decide +kernel
theorem tyX7_ok : ∀ k, k < 6 → parseFieldDescriptor (TX7 k).2.2.1 = some (tyX7 k) := by decide +kernel
abbrev cX7_init : ByteArray := prog_6_method_1_code
def yX7_init : MethodName := ⟨RX7, "<init>", "(IZII)V"⟩
def dkwX7_init_0 : List UInt8 := [42, 27, 183, 0, 1, 42, 28, 181, 0, 7, 42, 29, 181, 0, 13, 42, 21, 4, 181, 0, 17, 177]
abbrev dktX7_init_0 : List UInt8 := dkwX7_init_0 ++ []
theorem dksX7_init_0 : cX7_init.data.toList.drop 0 = dktX7_init_0 := by decide +kernel
theorem dX7_init_0 : decode cX7_init 0 = .ok (.aload_n 0, 1) := dk_42 (dk_at dksX7_init_0 0 rfl rfl)
theorem dX7_init_1 : decode cX7_init 1 = .ok (.iload_n 1, 1) := dk_27 (dk_at dksX7_init_0 1 rfl rfl)
theorem dX7_init_2 : decode cX7_init 2 = .ok (.invokespecial 1, 3) := dk_183 0 1 (dk_at dksX7_init_0 2 rfl rfl)
theorem dX7_init_5 : decode cX7_init 5 = .ok (.aload_n 0, 1) := dk_42 (dk_at dksX7_init_0 5 rfl rfl)
theorem dX7_init_6 : decode cX7_init 6 = .ok (.iload_n 2, 1) := dk_28 (dk_at dksX7_init_0 6 rfl rfl)
theorem dX7_init_7 : decode cX7_init 7 = .ok (.putfield 7, 3) := dk_181 0 7 (dk_at dksX7_init_0 7 rfl rfl)
theorem dX7_init_10 : decode cX7_init 10 = .ok (.aload_n 0, 1) := dk_42 (dk_at dksX7_init_0 10 rfl rfl)
theorem dX7_init_11 : decode cX7_init 11 = .ok (.iload_n 3, 1) := dk_29 (dk_at dksX7_init_0 11 rfl rfl)
theorem dX7_init_12 : decode cX7_init 12 = .ok (.putfield 13, 3) := dk_181 0 13 (dk_at dksX7_init_0 12 rfl rfl)
theorem dX7_init_15 : decode cX7_init 15 = .ok (.aload_n 0, 1) := dk_42 (dk_at dksX7_init_0 15 rfl rfl)
theorem dX7_init_16 : decode cX7_init 16 = .ok (.iload 4, 2) := dk_21 4 (dk_at dksX7_init_0 16 rfl rfl)
theorem dX7_init_18 : decode cX7_init 18 = .ok (.putfield 17, 3) := dk_181 0 17 (dk_at dksX7_init_0 18 rfl rfl)
theorem dX7_init_21 : decode cX7_init 21 = .ok (.return_, 1) := dk_177 (dk_at dksX7_init_0 21 rfl rfl)
abbrev cX7_form : ByteArray := prog_6_method_5_code
def yX7_form : MethodName := ⟨RX7, "form", "()I"⟩
theorem dX7_form_0 : decode cX7_form 0 = .ok (.aload_n 0, 1) := by decide +kernel
theorem dX7_form_1 : decode cX7_form 1 = .ok (.getfield 13, 3) := by decide +kernel
theorem dX7_form_4 : decode cX7_form 4 = .ok (.ireturn, 1) := by decide +kernel
abbrev cX7_passes : ByteArray := prog_6_method_4_code
def yX7_passes : MethodName := ⟨RX7, "passes", "(ILMirrorDoors$Sink;)V"⟩
def dkwX7_passes_1 : List UInt8 := [180, 0, 13, 154, 0, 9, 27, 4, 130, 167, 0, 6, 6, 27, 100, 185, 0, 32, 3, 0, 177]
abbrev dktX7_passes_1 : List UInt8 := dkwX7_passes_1 ++ []
def dkwX7_passes_0 : List UInt8 := [42, 180, 0, 7, 153, 0, 14, 44, 42, 180, 0, 20, 27, 185, 0, 32, 3, 0, 44, 42, 180, 0, 20, 42]
abbrev dktX7_passes_0 : List UInt8 := dkwX7_passes_0 ++ dktX7_passes_1
theorem dksX7_passes_0 : cX7_passes.data.toList.drop 0 = dktX7_passes_0 := by decide +kernel
theorem dksX7_passes_1 : cX7_passes.data.toList.drop 24 = dktX7_passes_1 := dk_seg dksX7_passes_0 24 rfl rfl
theorem dX7_passes_0 : decode cX7_passes 0 = .ok (.aload_n 0, 1) := dk_42 (dk_at dksX7_passes_0 0 rfl rfl)
theorem dX7_passes_1 : decode cX7_passes 1 = .ok (.getfield 7, 3) := dk_180 0 7 (dk_at dksX7_passes_0 1 rfl rfl)
theorem dX7_passes_4 : decode cX7_passes 4 = .ok (.ifCond .eq 14, 3) := dk_153 0 14 (dk_at dksX7_passes_0 4 rfl rfl)
theorem dX7_passes_7 : decode cX7_passes 7 = .ok (.aload_n 2, 1) := dk_44 (dk_at dksX7_passes_0 7 rfl rfl)
theorem dX7_passes_8 : decode cX7_passes 8 = .ok (.aload_n 0, 1) := dk_42 (dk_at dksX7_passes_0 8 rfl rfl)
theorem dX7_passes_9 : decode cX7_passes 9 = .ok (.getfield 20, 3) := dk_180 0 20 (dk_at dksX7_passes_0 9 rfl rfl)
theorem dX7_passes_12 : decode cX7_passes 12 = .ok (.iload_n 1, 1) := dk_27 (dk_at dksX7_passes_0 12 rfl rfl)
theorem dX7_passes_13 : decode cX7_passes 13 = .ok (.invokeinterface 32 3, 5) := by decide +kernel
theorem dX7_passes_18 : decode cX7_passes 18 = .ok (.aload_n 2, 1) := dk_44 (dk_at dksX7_passes_0 18 rfl rfl)
theorem dX7_passes_19 : decode cX7_passes 19 = .ok (.aload_n 0, 1) := dk_42 (dk_at dksX7_passes_0 19 rfl rfl)
theorem dX7_passes_20 : decode cX7_passes 20 = .ok (.getfield 20, 3) := dk_180 0 20 (dk_at dksX7_passes_0 20 rfl rfl)
theorem dX7_passes_23 : decode cX7_passes 23 = .ok (.aload_n 0, 1) := dk_42 (dk_at dksX7_passes_0 23 rfl rfl)
theorem dX7_passes_24 : decode cX7_passes 24 = .ok (.getfield 13, 3) := dk_180 0 13 (dk_at dksX7_passes_1 0 rfl rfl)
theorem dX7_passes_27 : decode cX7_passes 27 = .ok (.ifCond .ne 9, 3) := dk_154 0 9 (dk_at dksX7_passes_1 3 rfl rfl)
theorem dX7_passes_30 : decode cX7_passes 30 = .ok (.iload_n 1, 1) := dk_27 (dk_at dksX7_passes_1 6 rfl rfl)
theorem dX7_passes_31 : decode cX7_passes 31 = .ok (.iconst 1, 1) := dk_4 (dk_at dksX7_passes_1 7 rfl rfl)
theorem dX7_passes_32 : decode cX7_passes 32 = .ok (.ixor, 1) := dk_130 (dk_at dksX7_passes_1 8 rfl rfl)
theorem dX7_passes_33 : decode cX7_passes 33 = .ok (.goto 6, 3) := dk_167 0 6 (dk_at dksX7_passes_1 9 rfl rfl)
theorem dX7_passes_36 : decode cX7_passes 36 = .ok (.iconst 3, 1) := dk_6 (dk_at dksX7_passes_1 12 rfl rfl)
theorem dX7_passes_37 : decode cX7_passes 37 = .ok (.iload_n 1, 1) := dk_27 (dk_at dksX7_passes_1 13 rfl rfl)
theorem dX7_passes_38 : decode cX7_passes 38 = .ok (.isub, 1) := dk_100 (dk_at dksX7_passes_1 14 rfl rfl)
theorem dX7_passes_39 : decode cX7_passes 39 = .ok (.invokeinterface 32 3, 5) := by decide +kernel
theorem dX7_passes_44 : decode cX7_passes 44 = .ok (.return_, 1) := dk_177 (dk_at dksX7_passes_1 20 rfl rfl)
abbrev cX7_kind : ByteArray := prog_6_method_2_code
def yX7_kind : MethodName := ⟨RX7, "kind", "()I"⟩
def dkwX7_kind_0 : List UInt8 := [42, 180, 0, 7, 153, 0, 7, 6, 167, 0, 4, 5, 172]
abbrev dktX7_kind_0 : List UInt8 := dkwX7_kind_0 ++ []
theorem dksX7_kind_0 : cX7_kind.data.toList.drop 0 = dktX7_kind_0 := by decide +kernel
theorem dX7_kind_0 : decode cX7_kind 0 = .ok (.aload_n 0, 1) := dk_42 (dk_at dksX7_kind_0 0 rfl rfl)
theorem dX7_kind_1 : decode cX7_kind 1 = .ok (.getfield 7, 3) := dk_180 0 7 (dk_at dksX7_kind_0 1 rfl rfl)
theorem dX7_kind_4 : decode cX7_kind 4 = .ok (.ifCond .eq 7, 3) := dk_153 0 7 (dk_at dksX7_kind_0 4 rfl rfl)
theorem dX7_kind_7 : decode cX7_kind 7 = .ok (.iconst 3, 1) := dk_6 (dk_at dksX7_kind_0 7 rfl rfl)
theorem dX7_kind_8 : decode cX7_kind 8 = .ok (.goto 4, 3) := dk_167 0 4 (dk_at dksX7_kind_0 8 rfl rfl)
theorem dX7_kind_11 : decode cX7_kind 11 = .ok (.iconst 2, 1) := dk_5 (dk_at dksX7_kind_0 11 rfl rfl)
theorem dX7_kind_12 : decode cX7_kind 12 = .ok (.ireturn, 1) := dk_172 (dk_at dksX7_kind_0 12 rfl rfl)
abbrev cX7_owner : ByteArray := prog_6_method_6_code
def yX7_owner : MethodName := ⟨RX7, "owner", "()I"⟩
theorem dX7_owner_0 : decode cX7_owner 0 = .ok (.aload_n 0, 1) := by decide +kernel
theorem dX7_owner_1 : decode cX7_owner 1 = .ok (.getfield 17, 3) := by decide +kernel
theorem dX7_owner_4 : decode cX7_owner 4 = .ok (.ireturn, 1) := by decide +kernel
abbrev cX7_isFor : ByteArray := prog_6_method_7_code
def yX7_isFor : MethodName := ⟨RX7, "isFor", "(I)Z"⟩
def dkwX7_isFor_1 : List UInt8 := [167, 0, 4, 3, 172]
abbrev dktX7_isFor_1 : List UInt8 := dkwX7_isFor_1 ++ []
def dkwX7_isFor_0 : List UInt8 := [42, 180, 0, 17, 153, 0, 11, 42, 180, 0, 17, 27, 160, 0, 14, 42, 180, 0, 26, 154, 0, 7, 4]
abbrev dktX7_isFor_0 : List UInt8 := dkwX7_isFor_0 ++ dktX7_isFor_1
theorem dksX7_isFor_0 : cX7_isFor.data.toList.drop 0 = dktX7_isFor_0 := by decide +kernel
theorem dksX7_isFor_1 : cX7_isFor.data.toList.drop 23 = dktX7_isFor_1 := dk_seg dksX7_isFor_0 23 rfl rfl
theorem dX7_isFor_0 : decode cX7_isFor 0 = .ok (.aload_n 0, 1) := dk_42 (dk_at dksX7_isFor_0 0 rfl rfl)
theorem dX7_isFor_1 : decode cX7_isFor 1 = .ok (.getfield 17, 3) := dk_180 0 17 (dk_at dksX7_isFor_0 1 rfl rfl)
theorem dX7_isFor_4 : decode cX7_isFor 4 = .ok (.ifCond .eq 11, 3) := dk_153 0 11 (dk_at dksX7_isFor_0 4 rfl rfl)
theorem dX7_isFor_7 : decode cX7_isFor 7 = .ok (.aload_n 0, 1) := dk_42 (dk_at dksX7_isFor_0 7 rfl rfl)
theorem dX7_isFor_8 : decode cX7_isFor 8 = .ok (.getfield 17, 3) := dk_180 0 17 (dk_at dksX7_isFor_0 8 rfl rfl)
theorem dX7_isFor_11 : decode cX7_isFor 11 = .ok (.iload_n 1, 1) := dk_27 (dk_at dksX7_isFor_0 11 rfl rfl)
theorem dX7_isFor_12 : decode cX7_isFor 12 = .ok (.if_icmp .ne 14, 3) := dk_160 0 14 (dk_at dksX7_isFor_0 12 rfl rfl)
theorem dX7_isFor_15 : decode cX7_isFor 15 = .ok (.aload_n 0, 1) := dk_42 (dk_at dksX7_isFor_0 15 rfl rfl)
theorem dX7_isFor_16 : decode cX7_isFor 16 = .ok (.getfield 26, 3) := dk_180 0 26 (dk_at dksX7_isFor_0 16 rfl rfl)
theorem dX7_isFor_19 : decode cX7_isFor 19 = .ok (.ifCond .ne 7, 3) := dk_154 0 7 (dk_at dksX7_isFor_0 19 rfl rfl)
theorem dX7_isFor_22 : decode cX7_isFor 22 = .ok (.iconst 1, 1) := dk_4 (dk_at dksX7_isFor_0 22 rfl rfl)
theorem dX7_isFor_23 : decode cX7_isFor 23 = .ok (.goto 4, 3) := dk_167 0 4 (dk_at dksX7_isFor_1 0 rfl rfl)
theorem dX7_isFor_26 : decode cX7_isFor 26 = .ok (.iconst 0, 1) := dk_3 (dk_at dksX7_isFor_1 3 rfl rfl)
theorem dX7_isFor_27 : decode cX7_isFor 27 = .ok (.ireturn, 1) := dk_172 (dk_at dksX7_isFor_1 4 rfl rfl)
abbrev cX7_twin : ByteArray := prog_6_method_3_code
def yX7_twin : MethodName := ⟨RX7, "twin", "()LMirrorDoors$Cell;"⟩
def dkwX7_twin_1 : List UInt8 := [43, 42, 180, 0, 26, 181, 0, 26, 43, 42, 180, 0, 29, 181, 0, 29, 43, 176]
abbrev dktX7_twin_1 : List UInt8 := dkwX7_twin_1 ++ []
def dkwX7_twin_0 : List UInt8 := [187, 0, 8, 89, 42, 180, 0, 20, 42, 180, 0, 7, 42, 180, 0, 13, 42, 180, 0, 17, 183, 0, 23, 76]
abbrev dktX7_twin_0 : List UInt8 := dkwX7_twin_0 ++ dktX7_twin_1
theorem dksX7_twin_0 : cX7_twin.data.toList.drop 0 = dktX7_twin_0 := by decide +kernel
theorem dksX7_twin_1 : cX7_twin.data.toList.drop 24 = dktX7_twin_1 := dk_seg dksX7_twin_0 24 rfl rfl
theorem dX7_twin_0 : decode cX7_twin 0 = .ok (.new 8, 3) := dk_187 0 8 (dk_at dksX7_twin_0 0 rfl rfl)
theorem dX7_twin_3 : decode cX7_twin 3 = .ok (.dup, 1) := dk_89 (dk_at dksX7_twin_0 3 rfl rfl)
theorem dX7_twin_4 : decode cX7_twin 4 = .ok (.aload_n 0, 1) := dk_42 (dk_at dksX7_twin_0 4 rfl rfl)
theorem dX7_twin_5 : decode cX7_twin 5 = .ok (.getfield 20, 3) := dk_180 0 20 (dk_at dksX7_twin_0 5 rfl rfl)
theorem dX7_twin_8 : decode cX7_twin 8 = .ok (.aload_n 0, 1) := dk_42 (dk_at dksX7_twin_0 8 rfl rfl)
theorem dX7_twin_9 : decode cX7_twin 9 = .ok (.getfield 7, 3) := dk_180 0 7 (dk_at dksX7_twin_0 9 rfl rfl)
theorem dX7_twin_12 : decode cX7_twin 12 = .ok (.aload_n 0, 1) := dk_42 (dk_at dksX7_twin_0 12 rfl rfl)
theorem dX7_twin_13 : decode cX7_twin 13 = .ok (.getfield 13, 3) := dk_180 0 13 (dk_at dksX7_twin_0 13 rfl rfl)
theorem dX7_twin_16 : decode cX7_twin 16 = .ok (.aload_n 0, 1) := dk_42 (dk_at dksX7_twin_0 16 rfl rfl)
theorem dX7_twin_17 : decode cX7_twin 17 = .ok (.getfield 17, 3) := dk_180 0 17 (dk_at dksX7_twin_0 17 rfl rfl)
theorem dX7_twin_20 : decode cX7_twin 20 = .ok (.invokespecial 23, 3) := dk_183 0 23 (dk_at dksX7_twin_0 20 rfl rfl)
theorem dX7_twin_23 : decode cX7_twin 23 = .ok (.astore_n 1, 1) := dk_76 (dk_at dksX7_twin_0 23 rfl rfl)
theorem dX7_twin_24 : decode cX7_twin 24 = .ok (.aload_n 1, 1) := dk_43 (dk_at dksX7_twin_1 0 rfl rfl)
theorem dX7_twin_25 : decode cX7_twin 25 = .ok (.aload_n 0, 1) := dk_42 (dk_at dksX7_twin_1 1 rfl rfl)
theorem dX7_twin_26 : decode cX7_twin 26 = .ok (.getfield 26, 3) := dk_180 0 26 (dk_at dksX7_twin_1 2 rfl rfl)
theorem dX7_twin_29 : decode cX7_twin 29 = .ok (.putfield 26, 3) := dk_181 0 26 (dk_at dksX7_twin_1 5 rfl rfl)
theorem dX7_twin_32 : decode cX7_twin 32 = .ok (.aload_n 1, 1) := dk_43 (dk_at dksX7_twin_1 8 rfl rfl)
theorem dX7_twin_33 : decode cX7_twin 33 = .ok (.aload_n 0, 1) := dk_42 (dk_at dksX7_twin_1 9 rfl rfl)
theorem dX7_twin_34 : decode cX7_twin 34 = .ok (.getfield 29, 3) := dk_180 0 29 (dk_at dksX7_twin_1 10 rfl rfl)
theorem dX7_twin_37 : decode cX7_twin 37 = .ok (.putfield 29, 3) := dk_181 0 29 (dk_at dksX7_twin_1 13 rfl rfl)
theorem dX7_twin_40 : decode cX7_twin 40 = .ok (.aload_n 1, 1) := dk_43 (dk_at dksX7_twin_1 16 rfl rfl)
theorem dX7_twin_41 : decode cX7_twin 41 = .ok (.areturn, 1) := dk_176 (dk_at dksX7_twin_1 17 rfl rfl)
theorem q119 : (Jvm.Cond.initialized "MirrorDoors$Mirror") ∈ lw_all := lw_g (lw_at lw_m1 9 rfl) rfl
theorem q293 : (Jvm.Cond.fieldLink "MirrorDoors$Mirror" (20 : Nat) "MirrorDoors$Mirror" "at" "I") ∈ lw_all := lw_g (lw_at lw_m1 183 rfl) rfl
theorem q294 : (Jvm.Cond.sameField "MirrorDoors$Mirror" "MirrorDoors$Cell" "at" "I") ∈ lw_all := lw_g (lw_at lw_m1 184 rfl) rfl
theorem q319 : (Jvm.Cond.instantiable "MirrorDoors$Mirror" (6 : Nat)) ∈ lw_all := lw_g (lw_at lw_m1 209 rfl) rfl
theorem q321 : (Jvm.Cond.instanceMethod ({ cls := "MirrorDoors$Mirror", name := "<init>", desc := "(IZII)V" } : Jvm.MethodName)) ∈ lw_all := lw_g (lw_at lw_m1 211 rfl) rfl
theorem q322 : (Jvm.Cond.code ({ cls := "MirrorDoors$Mirror", name := "<init>", desc := "(IZII)V" } : Jvm.MethodName) prog_6_method_1_code (5 : Nat) (Option.none : Option Jvm.ClassFile.FieldType)) ∈ lw_all := lw_g (lw_at lw_m1 212 rfl) rfl
theorem q323 : (Jvm.Cond.methodLink "MirrorDoors$Mirror" (1 : Nat) ({ cls := "MirrorDoors$Cell", name := "<init>", desc := "(I)V" } : Jvm.MethodName)) ∈ lw_all := lw_g (lw_at lw_m1 213 rfl) rfl
theorem q324 : (Jvm.Cond.fieldLink "MirrorDoors$Mirror" (7 : Nat) "MirrorDoors$Mirror" "half" "Z") ∈ lw_all := lw_g (lw_at lw_m1 214 rfl) rfl
theorem q326 : (Jvm.Cond.fieldLink "MirrorDoors$Mirror" (17 : Nat) "MirrorDoors$Mirror" "owner" "I") ∈ lw_all := lw_g (lw_at lw_m1 216 rfl) rfl
theorem q329 : (Jvm.Cond.fieldLink "MirrorDoors$Mirror" (13 : Nat) "MirrorDoors$Mirror" "slant" "I") ∈ lw_all := lw_g (lw_at lw_m1 219 rfl) rfl
theorem q332 : (Jvm.Cond.fieldLink "MirrorDoors$Mirror" (26 : Nat) "MirrorDoors$Mirror" "lock" "I") ∈ lw_all := lw_g (lw_at lw_m1 222 rfl) rfl
theorem q335 : (Jvm.Cond.fieldLink "MirrorDoors$Mirror" (29 : Nat) "MirrorDoors$Mirror" "turns" "I") ∈ lw_all := lw_g (lw_at lw_m1 225 rfl) rfl
theorem q338 : (Jvm.Cond.laysFinal "MirrorDoors$Mirror" "MirrorDoors$Mirror" "half" "Z") ∈ lw_all := lw_g (lw_at lw_m1 228 rfl) rfl
theorem q339 : (Jvm.Cond.soleField "MirrorDoors$Mirror" "half") ∈ lw_all := lw_g (lw_at lw_m1 229 rfl) rfl
theorem q340 : (Jvm.Cond.laysFinal "MirrorDoors$Mirror" "MirrorDoors$Mirror" "owner" "I") ∈ lw_all := lw_g (lw_at lw_m1 230 rfl) rfl
theorem q341 : (Jvm.Cond.soleField "MirrorDoors$Mirror" "owner") ∈ lw_all := lw_g (lw_at lw_m1 231 rfl) rfl
theorem q342 : (Jvm.Cond.lays "MirrorDoors$Mirror" "MirrorDoors$Mirror" "slant" "I") ∈ lw_all := lw_g (lw_at lw_m1 232 rfl) rfl
theorem q343 : (Jvm.Cond.soleField "MirrorDoors$Mirror" "slant") ∈ lw_all := lw_g (lw_at lw_m1 233 rfl) rfl
theorem q344 : (Jvm.Cond.lays "MirrorDoors$Mirror" "MirrorDoors$Mirror" "lock" "I") ∈ lw_all := lw_g (lw_at lw_m1 234 rfl) rfl
theorem q345 : (Jvm.Cond.soleField "MirrorDoors$Mirror" "lock") ∈ lw_all := lw_g (lw_at lw_m1 235 rfl) rfl
theorem q346 : (Jvm.Cond.lays "MirrorDoors$Mirror" "MirrorDoors$Mirror" "turns" "I") ∈ lw_all := lw_g (lw_at lw_m1 236 rfl) rfl
theorem q347 : (Jvm.Cond.soleField "MirrorDoors$Mirror" "turns") ∈ lw_all := lw_g (lw_at lw_m1 237 rfl) rfl
theorem q348 : (Jvm.Cond.laysFinal "MirrorDoors$Mirror" "MirrorDoors$Cell" "at" "I") ∈ lw_all := lw_g (lw_at lw_m1 238 rfl) rfl
theorem q349 : (Jvm.Cond.superclass "MirrorDoors$Mirror" "MirrorDoors$Cell") ∈ lw_all := lw_g (lw_at lw_m1 239 rfl) rfl
theorem q395 : (Jvm.Cond.selects "MirrorDoors$Mirror" ({ cls := "MirrorDoors$Cell", name := "form", desc := "()I" } : Jvm.MethodName) ({ cls := "MirrorDoors$Mirror", name := "form", desc := "()I" } : Jvm.MethodName)) ∈ lw_all := lw_g (lw_at lw_m2 45 rfl) rfl
theorem q396 : (Jvm.Cond.instanceMethod ({ cls := "MirrorDoors$Mirror", name := "form", desc := "()I" } : Jvm.MethodName)) ∈ lw_all := lw_g (lw_at lw_m2 46 rfl) rfl
theorem q397 : (Jvm.Cond.code ({ cls := "MirrorDoors$Mirror", name := "form", desc := "()I" } : Jvm.MethodName) prog_6_method_5_code (1 : Nat) (Option.some Jvm.ClassFile.FieldType.int)) ∈ lw_all := lw_g (lw_at lw_m2 47 rfl) rfl
theorem q450 : (Jvm.Cond.selects "MirrorDoors$Mirror" ({ cls := "MirrorDoors$Cell", name := "passes", desc := "(ILMirrorDoors$Sink;)V" } : Jvm.MethodName) ({ cls := "MirrorDoors$Mirror", name := "passes", desc := "(ILMirrorDoors$Sink;)V" } : Jvm.MethodName)) ∈ lw_all := lw_g (lw_at lw_m2 100 rfl) rfl
theorem q451 : (Jvm.Cond.instanceMethod ({ cls := "MirrorDoors$Mirror", name := "passes", desc := "(ILMirrorDoors$Sink;)V" } : Jvm.MethodName)) ∈ lw_all := lw_g (lw_at lw_m2 101 rfl) rfl
theorem q452 : (Jvm.Cond.code ({ cls := "MirrorDoors$Mirror", name := "passes", desc := "(ILMirrorDoors$Sink;)V" } : Jvm.MethodName) prog_6_method_4_code (3 : Nat) (Option.none : Option Jvm.ClassFile.FieldType)) ∈ lw_all := lw_g (lw_at lw_m2 102 rfl) rfl
theorem q453 : (Jvm.Cond.interfaceEntry "MirrorDoors$Mirror" (32 : Nat)) ∈ lw_tbl := lw_at lw_m2 103 rfl
theorem q454 : (Jvm.Cond.methodLink "MirrorDoors$Mirror" (32 : Nat) ({ cls := "MirrorDoors$Sink", name := "goes", desc := "(II)V" } : Jvm.MethodName)) ∈ lw_all := lw_g (lw_at lw_m2 104 rfl) rfl
theorem q1021 : (Jvm.Cond.selects "MirrorDoors$Mirror" ({ cls := "MirrorDoors$Cell", name := "kind", desc := "()I" } : Jvm.MethodName) ({ cls := "MirrorDoors$Mirror", name := "kind", desc := "()I" } : Jvm.MethodName)) ∈ lw_all := lw_g (lw_at lw_m4 191 rfl) rfl
theorem q1022 : (Jvm.Cond.instanceMethod ({ cls := "MirrorDoors$Mirror", name := "kind", desc := "()I" } : Jvm.MethodName)) ∈ lw_all := lw_g (lw_at lw_m4 192 rfl) rfl
theorem q1023 : (Jvm.Cond.code ({ cls := "MirrorDoors$Mirror", name := "kind", desc := "()I" } : Jvm.MethodName) prog_6_method_2_code (1 : Nat) (Option.some Jvm.ClassFile.FieldType.int)) ∈ lw_all := lw_g (lw_at lw_m4 193 rfl) rfl
theorem q1114 : (Jvm.Cond.selects "MirrorDoors$Mirror" ({ cls := "MirrorDoors$Cell", name := "owner", desc := "()I" } : Jvm.MethodName) ({ cls := "MirrorDoors$Mirror", name := "owner", desc := "()I" } : Jvm.MethodName)) ∈ lw_all := lw_g (lw_at lw_m5 44 rfl) rfl
theorem q1115 : (Jvm.Cond.instanceMethod ({ cls := "MirrorDoors$Mirror", name := "owner", desc := "()I" } : Jvm.MethodName)) ∈ lw_all := lw_g (lw_at lw_m5 45 rfl) rfl
theorem q1116 : (Jvm.Cond.code ({ cls := "MirrorDoors$Mirror", name := "owner", desc := "()I" } : Jvm.MethodName) prog_6_method_6_code (1 : Nat) (Option.some Jvm.ClassFile.FieldType.int)) ∈ lw_all := lw_g (lw_at lw_m5 46 rfl) rfl
theorem q1208 : (Jvm.Cond.selects "MirrorDoors$Mirror" ({ cls := "java/lang/Object", name := "getClass", desc := "()Ljava/lang/Class;" } : Jvm.MethodName) ({ cls := "java/lang/Object", name := "getClass", desc := "()Ljava/lang/Class;" } : Jvm.MethodName)) ∈ lw_all := lw_g (lw_at lw_m5 138 rfl) rfl
theorem q1293 : (Jvm.Cond.instanceMethod ({ cls := "MirrorDoors$Mirror", name := "isFor", desc := "(I)Z" } : Jvm.MethodName)) ∈ lw_all := lw_g (lw_at lw_m5 223 rfl) rfl
theorem q1294 : (Jvm.Cond.selects "MirrorDoors$Mirror" ({ cls := "MirrorDoors$Mirror", name := "isFor", desc := "(I)Z" } : Jvm.MethodName) ({ cls := "MirrorDoors$Mirror", name := "isFor", desc := "(I)Z" } : Jvm.MethodName)) ∈ lw_all := lw_g (lw_at lw_m5 224 rfl) rfl
theorem q1295 : (Jvm.Cond.code ({ cls := "MirrorDoors$Mirror", name := "isFor", desc := "(I)Z" } : Jvm.MethodName) prog_6_method_7_code (2 : Nat) (Option.some Jvm.ClassFile.FieldType.boolean)) ∈ lw_all := lw_g (lw_at lw_m5 225 rfl) rfl
theorem q1317 : (Jvm.Cond.selects "MirrorDoors$Mirror" ({ cls := "MirrorDoors$Cell", name := "twin", desc := "()LMirrorDoors$Cell;" } : Jvm.MethodName) ({ cls := "MirrorDoors$Mirror", name := "twin", desc := "()LMirrorDoors$Cell;" } : Jvm.MethodName)) ∈ lw_all := lw_g (lw_at lw_m6 7 rfl) rfl
theorem q1318 : (Jvm.Cond.instanceMethod ({ cls := "MirrorDoors$Mirror", name := "twin", desc := "()LMirrorDoors$Cell;" } : Jvm.MethodName)) ∈ lw_all := lw_g (lw_at lw_m6 8 rfl) rfl
theorem q1319 : (Jvm.Cond.code ({ cls := "MirrorDoors$Mirror", name := "twin", desc := "()LMirrorDoors$Cell;" } : Jvm.MethodName) prog_6_method_3_code (2 : Nat) (Option.some (Jvm.ClassFile.FieldType.object "MirrorDoors$Cell"))) ∈ lw_all := lw_g (lw_at lw_m6 9 rfl) rfl
theorem q1320 : (Jvm.Cond.classLink "MirrorDoors$Mirror" (8 : Nat) "MirrorDoors$Mirror") ∈ lw_all := lw_g (lw_at lw_m6 10 rfl) rfl
theorem q1321 : (Jvm.Cond.methodLink "MirrorDoors$Mirror" (23 : Nat) ({ cls := "MirrorDoors$Mirror", name := "<init>", desc := "(IZII)V" } : Jvm.MethodName)) ∈ lw_all := lw_g (lw_at lw_m6 11 rfl) rfl
theorem q1527 : (Jvm.Cond.selects "MirrorDoors$Mirror" ({ cls := "java/lang/Object", name := "equals", desc := "(Ljava/lang/Object;)Z" } : Jvm.MethodName) ({ cls := "java/lang/Object", name := "equals", desc := "(Ljava/lang/Object;)Z" } : Jvm.MethodName)) ∈ lw_all := lw_g (lw_at lw_m6 217 rfl) rfl
theorem q2376 : (Jvm.Cond.castable "MirrorDoors$Mirror" "MirrorDoors$Cell") ∈ lw_tbl := lw_at lw_m10 106 rfl
theorem q2386 : (Jvm.Cond.castable "MirrorDoors$Mirror" "java/lang/Object") ∈ lw_tbl := lw_at lw_m10 116 rfl
theorem in_X7 : ∀ w ∈ wsX70, w ∈ lw_all := lw_in wsX70 [348, 338, 340, 342, 344, 346] (by decide +kernel) (by decide +kernel)

/-! MirrorDoors$Door -/
set_option maxRecDepth 100000
def RX8 : String := "MirrorDoors$Door"
def TX8 : u_T := fun k => match k with
  | 0 => ("MirrorDoors$Cell", "at", "I", true)
  | 1 => ("MirrorDoors$Door", "owner", "I", true)
  | _ => ("MirrorDoors$Door", "opened", "I", false)
def tyX8 : Nat → FieldType := fun k => match k with
  | 0 => .int
  | 1 => .int
  | _ => .int
abbrev wsX80 : List Cond := u_ws RX8 TX8 3
theorem nmX8 : ∀ a, a < 3 → ∀ b, b < 3 → a ≠ b → (TX8 a).2.1 ≠ (TX8 b).2.1 := by decide +kernel
theorem tyX8_ok : ∀ k, k < 3 → parseFieldDescriptor (TX8 k).2.2.1 = some (tyX8 k) := by decide +kernel
abbrev cX8_init : ByteArray := prog_3_method_1_code
def yX8_init : MethodName := ⟨RX8, "<init>", "(II)V"⟩
def dkwX8_init_0 : List UInt8 := [42, 27, 183, 0, 3, 42, 2, 181, 0, 9, 42, 28, 181, 0, 15, 177]
abbrev dktX8_init_0 : List UInt8 := dkwX8_init_0 ++ []
theorem dksX8_init_0 : cX8_init.data.toList.drop 0 = dktX8_init_0 := by decide +kernel
theorem dX8_init_0 : decode cX8_init 0 = .ok (.aload_n 0, 1) := dk_42 (dk_at dksX8_init_0 0 rfl rfl)
theorem dX8_init_1 : decode cX8_init 1 = .ok (.iload_n 1, 1) := dk_27 (dk_at dksX8_init_0 1 rfl rfl)
theorem dX8_init_2 : decode cX8_init 2 = .ok (.invokespecial 3, 3) := dk_183 0 3 (dk_at dksX8_init_0 2 rfl rfl)
theorem dX8_init_5 : decode cX8_init 5 = .ok (.aload_n 0, 1) := dk_42 (dk_at dksX8_init_0 5 rfl rfl)
theorem dX8_init_6 : decode cX8_init 6 = .ok (.iconst (-1), 1) := dk_2 (dk_at dksX8_init_0 6 rfl rfl)
theorem dX8_init_7 : decode cX8_init 7 = .ok (.putfield 9, 3) := dk_181 0 9 (dk_at dksX8_init_0 7 rfl rfl)
theorem dX8_init_10 : decode cX8_init 10 = .ok (.aload_n 0, 1) := dk_42 (dk_at dksX8_init_0 10 rfl rfl)
theorem dX8_init_11 : decode cX8_init 11 = .ok (.iload_n 2, 1) := dk_28 (dk_at dksX8_init_0 11 rfl rfl)
theorem dX8_init_12 : decode cX8_init 12 = .ok (.putfield 15, 3) := dk_181 0 15 (dk_at dksX8_init_0 12 rfl rfl)
theorem dX8_init_15 : decode cX8_init 15 = .ok (.return_, 1) := dk_177 (dk_at dksX8_init_0 15 rfl rfl)
abbrev cX8_passes : ByteArray := prog_3_method_4_code
def yX8_passes : MethodName := ⟨RX8, "passes", "(ILMirrorDoors$Sink;)V"⟩
theorem dX8_passes_0 : decode cX8_passes 0 = .ok (.return_, 1) := by decide +kernel
abbrev cX8_kind : ByteArray := prog_3_method_2_code
def yX8_kind : MethodName := ⟨RX8, "kind", "()I"⟩
theorem dX8_kind_0 : decode cX8_kind 0 = .ok (.iconst 4, 1) := by decide +kernel
theorem dX8_kind_1 : decode cX8_kind 1 = .ok (.ireturn, 1) := by decide +kernel
abbrev cX8_owner : ByteArray := prog_3_method_5_code
def yX8_owner : MethodName := ⟨RX8, "owner", "()I"⟩
theorem dX8_owner_0 : decode cX8_owner 0 = .ok (.aload_n 0, 1) := by decide +kernel
theorem dX8_owner_1 : decode cX8_owner 1 = .ok (.getfield 15, 3) := by decide +kernel
theorem dX8_owner_4 : decode cX8_owner 4 = .ok (.ireturn, 1) := by decide +kernel
abbrev cX8_isOpen : ByteArray := prog_3_method_6_code
def yX8_isOpen : MethodName := ⟨RX8, "isOpen", "()Z"⟩
def dkwX8_isOpen_0 : List UInt8 := [42, 180, 0, 9, 2, 159, 0, 7, 4, 167, 0, 4, 3, 172]
abbrev dktX8_isOpen_0 : List UInt8 := dkwX8_isOpen_0 ++ []
theorem dksX8_isOpen_0 : cX8_isOpen.data.toList.drop 0 = dktX8_isOpen_0 := by decide +kernel
theorem dX8_isOpen_0 : decode cX8_isOpen 0 = .ok (.aload_n 0, 1) := dk_42 (dk_at dksX8_isOpen_0 0 rfl rfl)
theorem dX8_isOpen_1 : decode cX8_isOpen 1 = .ok (.getfield 9, 3) := dk_180 0 9 (dk_at dksX8_isOpen_0 1 rfl rfl)
theorem dX8_isOpen_4 : decode cX8_isOpen 4 = .ok (.iconst (-1), 1) := dk_2 (dk_at dksX8_isOpen_0 4 rfl rfl)
theorem dX8_isOpen_5 : decode cX8_isOpen 5 = .ok (.if_icmp .eq 7, 3) := dk_159 0 7 (dk_at dksX8_isOpen_0 5 rfl rfl)
theorem dX8_isOpen_8 : decode cX8_isOpen 8 = .ok (.iconst 1, 1) := dk_4 (dk_at dksX8_isOpen_0 8 rfl rfl)
theorem dX8_isOpen_9 : decode cX8_isOpen 9 = .ok (.goto 4, 3) := dk_167 0 4 (dk_at dksX8_isOpen_0 9 rfl rfl)
theorem dX8_isOpen_12 : decode cX8_isOpen 12 = .ok (.iconst 0, 1) := dk_3 (dk_at dksX8_isOpen_0 12 rfl rfl)
theorem dX8_isOpen_13 : decode cX8_isOpen 13 = .ok (.ireturn, 1) := dk_172 (dk_at dksX8_isOpen_0 13 rfl rfl)
abbrev cX8_twin : ByteArray := prog_3_method_3_code
def yX8_twin : MethodName := ⟨RX8, "twin", "()LMirrorDoors$Cell;"⟩
def dkwX8_twin_1 : List UInt8 := [43, 176]
abbrev dktX8_twin_1 : List UInt8 := dkwX8_twin_1 ++ []
def dkwX8_twin_0 : List UInt8 := [187, 0, 10, 89, 42, 180, 0, 18, 42, 180, 0, 15, 183, 0, 21, 76, 43, 42, 180, 0, 9, 181, 0, 9]
abbrev dktX8_twin_0 : List UInt8 := dkwX8_twin_0 ++ dktX8_twin_1
theorem dksX8_twin_0 : cX8_twin.data.toList.drop 0 = dktX8_twin_0 := by decide +kernel
theorem dksX8_twin_1 : cX8_twin.data.toList.drop 24 = dktX8_twin_1 := dk_seg dksX8_twin_0 24 rfl rfl
theorem dX8_twin_0 : decode cX8_twin 0 = .ok (.new 10, 3) := dk_187 0 10 (dk_at dksX8_twin_0 0 rfl rfl)
theorem dX8_twin_3 : decode cX8_twin 3 = .ok (.dup, 1) := dk_89 (dk_at dksX8_twin_0 3 rfl rfl)
theorem dX8_twin_4 : decode cX8_twin 4 = .ok (.aload_n 0, 1) := dk_42 (dk_at dksX8_twin_0 4 rfl rfl)
theorem dX8_twin_5 : decode cX8_twin 5 = .ok (.getfield 18, 3) := dk_180 0 18 (dk_at dksX8_twin_0 5 rfl rfl)
theorem dX8_twin_8 : decode cX8_twin 8 = .ok (.aload_n 0, 1) := dk_42 (dk_at dksX8_twin_0 8 rfl rfl)
theorem dX8_twin_9 : decode cX8_twin 9 = .ok (.getfield 15, 3) := dk_180 0 15 (dk_at dksX8_twin_0 9 rfl rfl)
theorem dX8_twin_12 : decode cX8_twin 12 = .ok (.invokespecial 21, 3) := dk_183 0 21 (dk_at dksX8_twin_0 12 rfl rfl)
theorem dX8_twin_15 : decode cX8_twin 15 = .ok (.astore_n 1, 1) := dk_76 (dk_at dksX8_twin_0 15 rfl rfl)
theorem dX8_twin_16 : decode cX8_twin 16 = .ok (.aload_n 1, 1) := dk_43 (dk_at dksX8_twin_0 16 rfl rfl)
theorem dX8_twin_17 : decode cX8_twin 17 = .ok (.aload_n 0, 1) := dk_42 (dk_at dksX8_twin_0 17 rfl rfl)
theorem dX8_twin_18 : decode cX8_twin 18 = .ok (.getfield 9, 3) := dk_180 0 9 (dk_at dksX8_twin_0 18 rfl rfl)
theorem dX8_twin_21 : decode cX8_twin 21 = .ok (.putfield 9, 3) := dk_181 0 9 (dk_at dksX8_twin_0 21 rfl rfl)
theorem dX8_twin_24 : decode cX8_twin 24 = .ok (.aload_n 1, 1) := dk_43 (dk_at dksX8_twin_1 0 rfl rfl)
theorem dX8_twin_25 : decode cX8_twin 25 = .ok (.areturn, 1) := dk_176 (dk_at dksX8_twin_1 1 rfl rfl)
theorem q120 : (Jvm.Cond.initialized "MirrorDoors$Door") ∈ lw_all := lw_g (lw_at lw_m1 10 rfl) rfl
theorem q291 : (Jvm.Cond.fieldLink "MirrorDoors$Door" (18 : Nat) "MirrorDoors$Door" "at" "I") ∈ lw_all := lw_g (lw_at lw_m1 181 rfl) rfl
theorem q292 : (Jvm.Cond.sameField "MirrorDoors$Door" "MirrorDoors$Cell" "at" "I") ∈ lw_all := lw_g (lw_at lw_m1 182 rfl) rfl
theorem q351 : (Jvm.Cond.instantiable "MirrorDoors$Door" (3 : Nat)) ∈ lw_all := lw_g (lw_at lw_m2 1 rfl) rfl
theorem q353 : (Jvm.Cond.instanceMethod ({ cls := "MirrorDoors$Door", name := "<init>", desc := "(II)V" } : Jvm.MethodName)) ∈ lw_all := lw_g (lw_at lw_m2 3 rfl) rfl
theorem q354 : (Jvm.Cond.code ({ cls := "MirrorDoors$Door", name := "<init>", desc := "(II)V" } : Jvm.MethodName) prog_3_method_1_code (3 : Nat) (Option.none : Option Jvm.ClassFile.FieldType)) ∈ lw_all := lw_g (lw_at lw_m2 4 rfl) rfl
theorem q355 : (Jvm.Cond.methodLink "MirrorDoors$Door" (3 : Nat) ({ cls := "MirrorDoors$Cell", name := "<init>", desc := "(I)V" } : Jvm.MethodName)) ∈ lw_all := lw_g (lw_at lw_m2 5 rfl) rfl
theorem q356 : (Jvm.Cond.fieldLink "MirrorDoors$Door" (15 : Nat) "MirrorDoors$Door" "owner" "I") ∈ lw_all := lw_g (lw_at lw_m2 6 rfl) rfl
theorem q358 : (Jvm.Cond.fieldLink "MirrorDoors$Door" (9 : Nat) "MirrorDoors$Door" "opened" "I") ∈ lw_all := lw_g (lw_at lw_m2 8 rfl) rfl
theorem q361 : (Jvm.Cond.laysFinal "MirrorDoors$Door" "MirrorDoors$Door" "owner" "I") ∈ lw_all := lw_g (lw_at lw_m2 11 rfl) rfl
theorem q362 : (Jvm.Cond.soleField "MirrorDoors$Door" "owner") ∈ lw_all := lw_g (lw_at lw_m2 12 rfl) rfl
theorem q363 : (Jvm.Cond.lays "MirrorDoors$Door" "MirrorDoors$Door" "opened" "I") ∈ lw_all := lw_g (lw_at lw_m2 13 rfl) rfl
theorem q364 : (Jvm.Cond.soleField "MirrorDoors$Door" "opened") ∈ lw_all := lw_g (lw_at lw_m2 14 rfl) rfl
theorem q365 : (Jvm.Cond.laysFinal "MirrorDoors$Door" "MirrorDoors$Cell" "at" "I") ∈ lw_all := lw_g (lw_at lw_m2 15 rfl) rfl
theorem q366 : (Jvm.Cond.superclass "MirrorDoors$Door" "MirrorDoors$Cell") ∈ lw_all := lw_g (lw_at lw_m2 16 rfl) rfl
theorem q390 : (Jvm.Cond.selects "MirrorDoors$Door" ({ cls := "MirrorDoors$Cell", name := "form", desc := "()I" } : Jvm.MethodName) ({ cls := "MirrorDoors$Cell", name := "form", desc := "()I" } : Jvm.MethodName)) ∈ lw_all := lw_g (lw_at lw_m2 40 rfl) rfl
theorem q431 : (Jvm.Cond.selects "MirrorDoors$Door" ({ cls := "MirrorDoors$Cell", name := "passes", desc := "(ILMirrorDoors$Sink;)V" } : Jvm.MethodName) ({ cls := "MirrorDoors$Door", name := "passes", desc := "(ILMirrorDoors$Sink;)V" } : Jvm.MethodName)) ∈ lw_all := lw_g (lw_at lw_m2 81 rfl) rfl
theorem q432 : (Jvm.Cond.instanceMethod ({ cls := "MirrorDoors$Door", name := "passes", desc := "(ILMirrorDoors$Sink;)V" } : Jvm.MethodName)) ∈ lw_all := lw_g (lw_at lw_m2 82 rfl) rfl
theorem q433 : (Jvm.Cond.code ({ cls := "MirrorDoors$Door", name := "passes", desc := "(ILMirrorDoors$Sink;)V" } : Jvm.MethodName) prog_3_method_4_code (3 : Nat) (Option.none : Option Jvm.ClassFile.FieldType)) ∈ lw_all := lw_g (lw_at lw_m2 83 rfl) rfl
theorem q1012 : (Jvm.Cond.selects "MirrorDoors$Door" ({ cls := "MirrorDoors$Cell", name := "kind", desc := "()I" } : Jvm.MethodName) ({ cls := "MirrorDoors$Door", name := "kind", desc := "()I" } : Jvm.MethodName)) ∈ lw_all := lw_g (lw_at lw_m4 182 rfl) rfl
theorem q1013 : (Jvm.Cond.instanceMethod ({ cls := "MirrorDoors$Door", name := "kind", desc := "()I" } : Jvm.MethodName)) ∈ lw_all := lw_g (lw_at lw_m4 183 rfl) rfl
theorem q1014 : (Jvm.Cond.code ({ cls := "MirrorDoors$Door", name := "kind", desc := "()I" } : Jvm.MethodName) prog_3_method_2_code (1 : Nat) (Option.some Jvm.ClassFile.FieldType.int)) ∈ lw_all := lw_g (lw_at lw_m4 184 rfl) rfl
theorem q1109 : (Jvm.Cond.selects "MirrorDoors$Door" ({ cls := "MirrorDoors$Cell", name := "owner", desc := "()I" } : Jvm.MethodName) ({ cls := "MirrorDoors$Door", name := "owner", desc := "()I" } : Jvm.MethodName)) ∈ lw_all := lw_g (lw_at lw_m5 39 rfl) rfl
theorem q1110 : (Jvm.Cond.instanceMethod ({ cls := "MirrorDoors$Door", name := "owner", desc := "()I" } : Jvm.MethodName)) ∈ lw_all := lw_g (lw_at lw_m5 40 rfl) rfl
theorem q1111 : (Jvm.Cond.code ({ cls := "MirrorDoors$Door", name := "owner", desc := "()I" } : Jvm.MethodName) prog_3_method_5_code (1 : Nat) (Option.some Jvm.ClassFile.FieldType.int)) ∈ lw_all := lw_g (lw_at lw_m5 41 rfl) rfl
theorem q1125 : (Jvm.Cond.instanceMethod ({ cls := "MirrorDoors$Door", name := "isOpen", desc := "()Z" } : Jvm.MethodName)) ∈ lw_all := lw_g (lw_at lw_m5 55 rfl) rfl
theorem q1126 : (Jvm.Cond.selects "MirrorDoors$Door" ({ cls := "MirrorDoors$Door", name := "isOpen", desc := "()Z" } : Jvm.MethodName) ({ cls := "MirrorDoors$Door", name := "isOpen", desc := "()Z" } : Jvm.MethodName)) ∈ lw_all := lw_g (lw_at lw_m5 56 rfl) rfl
theorem q1127 : (Jvm.Cond.code ({ cls := "MirrorDoors$Door", name := "isOpen", desc := "()Z" } : Jvm.MethodName) prog_3_method_6_code (1 : Nat) (Option.some Jvm.ClassFile.FieldType.boolean)) ∈ lw_all := lw_g (lw_at lw_m5 57 rfl) rfl
theorem q1205 : (Jvm.Cond.selects "MirrorDoors$Door" ({ cls := "java/lang/Object", name := "getClass", desc := "()Ljava/lang/Class;" } : Jvm.MethodName) ({ cls := "java/lang/Object", name := "getClass", desc := "()Ljava/lang/Class;" } : Jvm.MethodName)) ∈ lw_all := lw_g (lw_at lw_m5 135 rfl) rfl
theorem q1306 : (Jvm.Cond.selects "MirrorDoors$Door" ({ cls := "MirrorDoors$Cell", name := "twin", desc := "()LMirrorDoors$Cell;" } : Jvm.MethodName) ({ cls := "MirrorDoors$Door", name := "twin", desc := "()LMirrorDoors$Cell;" } : Jvm.MethodName)) ∈ lw_all := lw_g (lw_at lw_m5 236 rfl) rfl
theorem q1307 : (Jvm.Cond.instanceMethod ({ cls := "MirrorDoors$Door", name := "twin", desc := "()LMirrorDoors$Cell;" } : Jvm.MethodName)) ∈ lw_all := lw_g (lw_at lw_m5 237 rfl) rfl
theorem q1308 : (Jvm.Cond.code ({ cls := "MirrorDoors$Door", name := "twin", desc := "()LMirrorDoors$Cell;" } : Jvm.MethodName) prog_3_method_3_code (2 : Nat) (Option.some (Jvm.ClassFile.FieldType.object "MirrorDoors$Cell"))) ∈ lw_all := lw_g (lw_at lw_m5 238 rfl) rfl
theorem q1309 : (Jvm.Cond.classLink "MirrorDoors$Door" (10 : Nat) "MirrorDoors$Door") ∈ lw_all := lw_g (lw_at lw_m5 239 rfl) rfl
theorem q1310 : (Jvm.Cond.methodLink "MirrorDoors$Door" (21 : Nat) ({ cls := "MirrorDoors$Door", name := "<init>", desc := "(II)V" } : Jvm.MethodName)) ∈ lw_all := lw_g (lw_at lw_m6 0 rfl) rfl
theorem q1524 : (Jvm.Cond.selects "MirrorDoors$Door" ({ cls := "java/lang/Object", name := "equals", desc := "(Ljava/lang/Object;)Z" } : Jvm.MethodName) ({ cls := "java/lang/Object", name := "equals", desc := "(Ljava/lang/Object;)Z" } : Jvm.MethodName)) ∈ lw_all := lw_g (lw_at lw_m6 214 rfl) rfl
theorem q2373 : (Jvm.Cond.castable "MirrorDoors$Door" "MirrorDoors$Cell") ∈ lw_tbl := lw_at lw_m10 103 rfl
theorem q2387 : (Jvm.Cond.castable "MirrorDoors$Door" "java/lang/Object") ∈ lw_tbl := lw_at lw_m10 117 rfl
theorem in_X8 : ∀ w ∈ wsX80, w ∈ lw_all := lw_in wsX80 [365, 361, 363] (by decide +kernel) (by decide +kernel)

/-! MirrorDoors$Reader -/
set_option maxRecDepth 100000
def RX10 : String := "MirrorDoors$Reader"
def TX10 : u_T := fun k => match k with
  | 0 => ("MirrorDoors$Reader", "length", "I", true)
  | 1 => ("MirrorDoors$Reader", "position", "I", false)
  | 2 => ("MirrorDoors$Reader", "end", "I", false)
  | 3 => ("MirrorDoors$Reader", "read", "LMirrorDoors$World;", false)
  | 4 => ("MirrorDoors$Reader", "turned", "Z", false)
  | _ => ("MirrorDoors$Reader", "this$0", "LMirrorDoors;", true)
def tyX10 : Nat → FieldType := fun k => match k with
  | 0 => .int
  | 1 => .int
  | 2 => .int
  | 3 => .object "MirrorDoors$World"
  | 4 => .boolean
  | _ => .object "MirrorDoors"
abbrev wsX100 : List Cond := u_ws RX10 TX10 6
theorem nmX10 : ∀ a, a < 6 → ∀ b, b < 6 → a ≠ b → (TX10 a).2.1 ≠ (TX10 b).2.1 := by decide +kernel
theorem tyX10_ok : ∀ k, k < 6 → parseFieldDescriptor (TX10 k).2.2.1 = some (tyX10 k) := by decide +kernel
abbrev cX10_init : ByteArray := prog_9_method_1_code
def yX10_init : MethodName := ⟨RX10, "<init>", "(LMirrorDoors;I)V"⟩
def dkwX10_init_0 : List UInt8 := [42, 43, 181, 0, 3, 42, 183, 0, 9, 42, 28, 181, 0, 15, 177]
abbrev dktX10_init_0 : List UInt8 := dkwX10_init_0 ++ []
theorem dksX10_init_0 : cX10_init.data.toList.drop 0 = dktX10_init_0 := by decide +kernel
theorem dX10_init_0 : decode cX10_init 0 = .ok (.aload_n 0, 1) := dk_42 (dk_at dksX10_init_0 0 rfl rfl)
theorem dX10_init_1 : decode cX10_init 1 = .ok (.aload_n 1, 1) := dk_43 (dk_at dksX10_init_0 1 rfl rfl)
theorem dX10_init_2 : decode cX10_init 2 = .ok (.putfield 3, 3) := dk_181 0 3 (dk_at dksX10_init_0 2 rfl rfl)
theorem dX10_init_5 : decode cX10_init 5 = .ok (.aload_n 0, 1) := dk_42 (dk_at dksX10_init_0 5 rfl rfl)
theorem dX10_init_6 : decode cX10_init 6 = .ok (.invokespecial 9, 3) := dk_183 0 9 (dk_at dksX10_init_0 6 rfl rfl)
theorem dX10_init_9 : decode cX10_init 9 = .ok (.aload_n 0, 1) := dk_42 (dk_at dksX10_init_0 9 rfl rfl)
theorem dX10_init_10 : decode cX10_init 10 = .ok (.iload_n 2, 1) := dk_28 (dk_at dksX10_init_0 10 rfl rfl)
theorem dX10_init_11 : decode cX10_init 11 = .ok (.putfield 15, 3) := dk_181 0 15 (dk_at dksX10_init_0 11 rfl rfl)
theorem dX10_init_14 : decode cX10_init 14 = .ok (.return_, 1) := dk_177 (dk_at dksX10_init_0 14 rfl rfl)
abbrev cX10_read : ByteArray := prog_9_method_17_code
def yX10_read : MethodName := ⟨RX10, "read", "()LMirrorDoors$World;"⟩
def dkwX10_read_5 : List UInt8 := [167, 255, 237, 42, 180, 0, 128, 154, 0, 10, 42, 180, 0, 79, 182, 0, 132, 42, 180, 0, 79, 176]
abbrev dktX10_read_5 : List UInt8 := dkwX10_read_5 ++ []
def dkwX10_read_4 : List UInt8 := [182, 0, 38, 42, 180, 0, 25, 42, 180, 0, 15, 162, 0, 14, 42, 182, 0, 205, 42, 182, 0, 38]
abbrev dktX10_read_4 : List UInt8 := dkwX10_read_4 ++ dktX10_read_5
def dkwX10_read_3 : List UInt8 := [16, 10, 21, 4, 104, 29, 96, 42, 3, 6, 182, 0, 88, 183, 0, 202, 181, 0, 79, 42, 182, 0, 138, 42]
abbrev dktX10_read_3 : List UInt8 := dkwX10_read_3 ++ dktX10_read_4
def dkwX10_read_2 : List UInt8 := [42, 3, 28, 4, 100, 182, 0, 88, 54, 4, 42, 187, 0, 84, 89, 42, 180, 0, 3, 180, 0, 198, 27, 28]
abbrev dktX10_read_2 : List UInt8 := dkwX10_read_2 ++ dktX10_read_3
def dkwX10_read_1 : List UInt8 := [182, 0, 88, 61, 42, 42, 18, 196, 182, 0, 106, 4, 182, 0, 72, 42, 3, 27, 4, 100, 182, 0, 88, 62]
abbrev dktX10_read_1 : List UInt8 := dkwX10_read_1 ++ dktX10_read_2
def dkwX10_read_0 : List UInt8 := [42, 42, 18, 194, 182, 0, 106, 4, 182, 0, 72, 42, 5, 16, 10, 182, 0, 88, 60, 42, 5, 16, 10]
abbrev dktX10_read_0 : List UInt8 := dkwX10_read_0 ++ dktX10_read_1
theorem dksX10_read_0 : cX10_read.data.toList.drop 0 = dktX10_read_0 := by decide +kernel
theorem dksX10_read_1 : cX10_read.data.toList.drop 23 = dktX10_read_1 := dk_seg dksX10_read_0 23 rfl rfl
theorem dksX10_read_2 : cX10_read.data.toList.drop 47 = dktX10_read_2 := dk_seg dksX10_read_1 24 rfl rfl
theorem dksX10_read_3 : cX10_read.data.toList.drop 71 = dktX10_read_3 := dk_seg dksX10_read_2 24 rfl rfl
theorem dksX10_read_4 : cX10_read.data.toList.drop 95 = dktX10_read_4 := dk_seg dksX10_read_3 24 rfl rfl
theorem dksX10_read_5 : cX10_read.data.toList.drop 117 = dktX10_read_5 := dk_seg dksX10_read_4 22 rfl rfl
theorem dX10_read_0 : decode cX10_read 0 = .ok (.aload_n 0, 1) := dk_42 (dk_at dksX10_read_0 0 rfl rfl)
theorem dX10_read_1 : decode cX10_read 1 = .ok (.aload_n 0, 1) := dk_42 (dk_at dksX10_read_0 1 rfl rfl)
theorem dX10_read_2 : decode cX10_read 2 = .ok (.ldc 194, 2) := dk_18 194 (dk_at dksX10_read_0 2 rfl rfl)
theorem dX10_read_4 : decode cX10_read 4 = .ok (.invokevirtual 106, 3) := dk_182 0 106 (dk_at dksX10_read_0 4 rfl rfl)
theorem dX10_read_7 : decode cX10_read 7 = .ok (.iconst 1, 1) := dk_4 (dk_at dksX10_read_0 7 rfl rfl)
theorem dX10_read_8 : decode cX10_read 8 = .ok (.invokevirtual 72, 3) := dk_182 0 72 (dk_at dksX10_read_0 8 rfl rfl)
theorem dX10_read_11 : decode cX10_read 11 = .ok (.aload_n 0, 1) := dk_42 (dk_at dksX10_read_0 11 rfl rfl)
theorem dX10_read_12 : decode cX10_read 12 = .ok (.iconst 2, 1) := dk_5 (dk_at dksX10_read_0 12 rfl rfl)
theorem dX10_read_13 : decode cX10_read 13 = .ok (.bipush 10, 2) := dk_16 10 (dk_at dksX10_read_0 13 rfl rfl)
theorem dX10_read_15 : decode cX10_read 15 = .ok (.invokevirtual 88, 3) := dk_182 0 88 (dk_at dksX10_read_0 15 rfl rfl)
theorem dX10_read_18 : decode cX10_read 18 = .ok (.istore_n 1, 1) := dk_60 (dk_at dksX10_read_0 18 rfl rfl)
theorem dX10_read_19 : decode cX10_read 19 = .ok (.aload_n 0, 1) := dk_42 (dk_at dksX10_read_0 19 rfl rfl)
theorem dX10_read_20 : decode cX10_read 20 = .ok (.iconst 2, 1) := dk_5 (dk_at dksX10_read_0 20 rfl rfl)
theorem dX10_read_21 : decode cX10_read 21 = .ok (.bipush 10, 2) := dk_16 10 (dk_at dksX10_read_0 21 rfl rfl)
theorem dX10_read_23 : decode cX10_read 23 = .ok (.invokevirtual 88, 3) := dk_182 0 88 (dk_at dksX10_read_1 0 rfl rfl)
theorem dX10_read_26 : decode cX10_read 26 = .ok (.istore_n 2, 1) := dk_61 (dk_at dksX10_read_1 3 rfl rfl)
theorem dX10_read_27 : decode cX10_read 27 = .ok (.aload_n 0, 1) := dk_42 (dk_at dksX10_read_1 4 rfl rfl)
theorem dX10_read_28 : decode cX10_read 28 = .ok (.aload_n 0, 1) := dk_42 (dk_at dksX10_read_1 5 rfl rfl)
theorem dX10_read_29 : decode cX10_read 29 = .ok (.ldc 196, 2) := dk_18 196 (dk_at dksX10_read_1 6 rfl rfl)
theorem dX10_read_31 : decode cX10_read 31 = .ok (.invokevirtual 106, 3) := dk_182 0 106 (dk_at dksX10_read_1 8 rfl rfl)
theorem dX10_read_34 : decode cX10_read 34 = .ok (.iconst 1, 1) := dk_4 (dk_at dksX10_read_1 11 rfl rfl)
theorem dX10_read_35 : decode cX10_read 35 = .ok (.invokevirtual 72, 3) := dk_182 0 72 (dk_at dksX10_read_1 12 rfl rfl)
theorem dX10_read_38 : decode cX10_read 38 = .ok (.aload_n 0, 1) := dk_42 (dk_at dksX10_read_1 15 rfl rfl)
theorem dX10_read_39 : decode cX10_read 39 = .ok (.iconst 0, 1) := dk_3 (dk_at dksX10_read_1 16 rfl rfl)
theorem dX10_read_40 : decode cX10_read 40 = .ok (.iload_n 1, 1) := dk_27 (dk_at dksX10_read_1 17 rfl rfl)
theorem dX10_read_41 : decode cX10_read 41 = .ok (.iconst 1, 1) := dk_4 (dk_at dksX10_read_1 18 rfl rfl)
theorem dX10_read_42 : decode cX10_read 42 = .ok (.isub, 1) := dk_100 (dk_at dksX10_read_1 19 rfl rfl)
theorem dX10_read_43 : decode cX10_read 43 = .ok (.invokevirtual 88, 3) := dk_182 0 88 (dk_at dksX10_read_1 20 rfl rfl)
theorem dX10_read_46 : decode cX10_read 46 = .ok (.istore_n 3, 1) := dk_62 (dk_at dksX10_read_1 23 rfl rfl)
theorem dX10_read_47 : decode cX10_read 47 = .ok (.aload_n 0, 1) := dk_42 (dk_at dksX10_read_2 0 rfl rfl)
theorem dX10_read_48 : decode cX10_read 48 = .ok (.iconst 0, 1) := dk_3 (dk_at dksX10_read_2 1 rfl rfl)
theorem dX10_read_49 : decode cX10_read 49 = .ok (.iload_n 2, 1) := dk_28 (dk_at dksX10_read_2 2 rfl rfl)
theorem dX10_read_50 : decode cX10_read 50 = .ok (.iconst 1, 1) := dk_4 (dk_at dksX10_read_2 3 rfl rfl)
theorem dX10_read_51 : decode cX10_read 51 = .ok (.isub, 1) := dk_100 (dk_at dksX10_read_2 4 rfl rfl)
theorem dX10_read_52 : decode cX10_read 52 = .ok (.invokevirtual 88, 3) := dk_182 0 88 (dk_at dksX10_read_2 5 rfl rfl)
theorem dX10_read_55 : decode cX10_read 55 = .ok (.istore 4, 2) := dk_54 4 (dk_at dksX10_read_2 8 rfl rfl)
theorem dX10_read_57 : decode cX10_read 57 = .ok (.aload_n 0, 1) := dk_42 (dk_at dksX10_read_2 10 rfl rfl)
theorem dX10_read_58 : decode cX10_read 58 = .ok (.new 84, 3) := dk_187 0 84 (dk_at dksX10_read_2 11 rfl rfl)
theorem dX10_read_61 : decode cX10_read 61 = .ok (.dup, 1) := dk_89 (dk_at dksX10_read_2 14 rfl rfl)
theorem dX10_read_62 : decode cX10_read 62 = .ok (.aload_n 0, 1) := dk_42 (dk_at dksX10_read_2 15 rfl rfl)
theorem dX10_read_63 : decode cX10_read 63 = .ok (.getfield 3, 3) := dk_180 0 3 (dk_at dksX10_read_2 16 rfl rfl)
theorem dX10_read_66 : decode cX10_read 66 = .ok (.getfield 198, 3) := dk_180 0 198 (dk_at dksX10_read_2 19 rfl rfl)
theorem dX10_read_69 : decode cX10_read 69 = .ok (.iload_n 1, 1) := dk_27 (dk_at dksX10_read_2 22 rfl rfl)
theorem dX10_read_70 : decode cX10_read 70 = .ok (.iload_n 2, 1) := dk_28 (dk_at dksX10_read_2 23 rfl rfl)
theorem dX10_read_71 : decode cX10_read 71 = .ok (.bipush 10, 2) := dk_16 10 (dk_at dksX10_read_3 0 rfl rfl)
theorem dX10_read_73 : decode cX10_read 73 = .ok (.iload 4, 2) := dk_21 4 (dk_at dksX10_read_3 2 rfl rfl)
theorem dX10_read_75 : decode cX10_read 75 = .ok (.imul, 1) := dk_104 (dk_at dksX10_read_3 4 rfl rfl)
theorem dX10_read_76 : decode cX10_read 76 = .ok (.iload_n 3, 1) := dk_29 (dk_at dksX10_read_3 5 rfl rfl)
theorem dX10_read_77 : decode cX10_read 77 = .ok (.iadd, 1) := dk_96 (dk_at dksX10_read_3 6 rfl rfl)
theorem dX10_read_78 : decode cX10_read 78 = .ok (.aload_n 0, 1) := dk_42 (dk_at dksX10_read_3 7 rfl rfl)
theorem dX10_read_79 : decode cX10_read 79 = .ok (.iconst 0, 1) := dk_3 (dk_at dksX10_read_3 8 rfl rfl)
theorem dX10_read_80 : decode cX10_read 80 = .ok (.iconst 3, 1) := dk_6 (dk_at dksX10_read_3 9 rfl rfl)
theorem dX10_read_81 : decode cX10_read 81 = .ok (.invokevirtual 88, 3) := dk_182 0 88 (dk_at dksX10_read_3 10 rfl rfl)
theorem dX10_read_84 : decode cX10_read 84 = .ok (.invokespecial 202, 3) := dk_183 0 202 (dk_at dksX10_read_3 13 rfl rfl)
theorem dX10_read_87 : decode cX10_read 87 = .ok (.putfield 79, 3) := dk_181 0 79 (dk_at dksX10_read_3 16 rfl rfl)
theorem dX10_read_90 : decode cX10_read 90 = .ok (.aload_n 0, 1) := dk_42 (dk_at dksX10_read_3 19 rfl rfl)
theorem dX10_read_91 : decode cX10_read 91 = .ok (.invokevirtual 138, 3) := dk_182 0 138 (dk_at dksX10_read_3 20 rfl rfl)
theorem dX10_read_94 : decode cX10_read 94 = .ok (.aload_n 0, 1) := dk_42 (dk_at dksX10_read_3 23 rfl rfl)
theorem dX10_read_95 : decode cX10_read 95 = .ok (.invokevirtual 38, 3) := dk_182 0 38 (dk_at dksX10_read_4 0 rfl rfl)
theorem dX10_read_98 : decode cX10_read 98 = .ok (.aload_n 0, 1) := dk_42 (dk_at dksX10_read_4 3 rfl rfl)
theorem dX10_read_99 : decode cX10_read 99 = .ok (.getfield 25, 3) := dk_180 0 25 (dk_at dksX10_read_4 4 rfl rfl)
theorem dX10_read_102 : decode cX10_read 102 = .ok (.aload_n 0, 1) := dk_42 (dk_at dksX10_read_4 7 rfl rfl)
theorem dX10_read_103 : decode cX10_read 103 = .ok (.getfield 15, 3) := dk_180 0 15 (dk_at dksX10_read_4 8 rfl rfl)
theorem dX10_read_106 : decode cX10_read 106 = .ok (.if_icmp .ge 14, 3) := dk_162 0 14 (dk_at dksX10_read_4 11 rfl rfl)
theorem dX10_read_109 : decode cX10_read 109 = .ok (.aload_n 0, 1) := dk_42 (dk_at dksX10_read_4 14 rfl rfl)
theorem dX10_read_110 : decode cX10_read 110 = .ok (.invokevirtual 205, 3) := dk_182 0 205 (dk_at dksX10_read_4 15 rfl rfl)
theorem dX10_read_113 : decode cX10_read 113 = .ok (.aload_n 0, 1) := dk_42 (dk_at dksX10_read_4 18 rfl rfl)
theorem dX10_read_114 : decode cX10_read 114 = .ok (.invokevirtual 38, 3) := dk_182 0 38 (dk_at dksX10_read_4 19 rfl rfl)
theorem dX10_read_117 : decode cX10_read 117 = .ok (.goto (-19), 3) := dk_167 255 237 (dk_at dksX10_read_5 0 rfl rfl)
theorem dX10_read_120 : decode cX10_read 120 = .ok (.aload_n 0, 1) := dk_42 (dk_at dksX10_read_5 3 rfl rfl)
theorem dX10_read_121 : decode cX10_read 121 = .ok (.getfield 128, 3) := dk_180 0 128 (dk_at dksX10_read_5 4 rfl rfl)
theorem dX10_read_124 : decode cX10_read 124 = .ok (.ifCond .ne 10, 3) := dk_154 0 10 (dk_at dksX10_read_5 7 rfl rfl)
theorem dX10_read_127 : decode cX10_read 127 = .ok (.aload_n 0, 1) := dk_42 (dk_at dksX10_read_5 10 rfl rfl)
theorem dX10_read_128 : decode cX10_read 128 = .ok (.getfield 79, 3) := dk_180 0 79 (dk_at dksX10_read_5 11 rfl rfl)
theorem dX10_read_131 : decode cX10_read 131 = .ok (.invokevirtual 132, 3) := dk_182 0 132 (dk_at dksX10_read_5 14 rfl rfl)
theorem dX10_read_134 : decode cX10_read 134 = .ok (.aload_n 0, 1) := dk_42 (dk_at dksX10_read_5 17 rfl rfl)
theorem dX10_read_135 : decode cX10_read 135 = .ok (.getfield 79, 3) := dk_180 0 79 (dk_at dksX10_read_5 18 rfl rfl)
theorem dX10_read_138 : decode cX10_read 138 = .ok (.areturn, 1) := dk_176 (dk_at dksX10_read_5 21 rfl rfl)
abbrev cX10_passes : ByteArray := prog_9_method_6_code
def yX10_passes : MethodName := ⟨RX10, "passes", "(Ljava/lang/String;)Z"⟩
def dkwX10_passes_1 : List UInt8 := [180, 0, 25, 181, 0, 25, 28, 172]
abbrev dktX10_passes_1 : List UInt8 := dkwX10_passes_1 ++ []
def dkwX10_passes_0 : List UInt8 := [42, 182, 0, 56, 43, 182, 0, 59, 61, 42, 28, 153, 0, 10, 42, 180, 0, 35, 167, 0, 7, 42]
abbrev dktX10_passes_0 : List UInt8 := dkwX10_passes_0 ++ dktX10_passes_1
theorem dksX10_passes_0 : cX10_passes.data.toList.drop 0 = dktX10_passes_0 := by decide +kernel
theorem dksX10_passes_1 : cX10_passes.data.toList.drop 22 = dktX10_passes_1 := dk_seg dksX10_passes_0 22 rfl rfl
theorem dX10_passes_0 : decode cX10_passes 0 = .ok (.aload_n 0, 1) := dk_42 (dk_at dksX10_passes_0 0 rfl rfl)
theorem dX10_passes_1 : decode cX10_passes 1 = .ok (.invokevirtual 56, 3) := dk_182 0 56 (dk_at dksX10_passes_0 1 rfl rfl)
theorem dX10_passes_4 : decode cX10_passes 4 = .ok (.aload_n 1, 1) := dk_43 (dk_at dksX10_passes_0 4 rfl rfl)
theorem dX10_passes_5 : decode cX10_passes 5 = .ok (.invokevirtual 59, 3) := dk_182 0 59 (dk_at dksX10_passes_0 5 rfl rfl)
theorem dX10_passes_8 : decode cX10_passes 8 = .ok (.istore_n 2, 1) := dk_61 (dk_at dksX10_passes_0 8 rfl rfl)
theorem dX10_passes_9 : decode cX10_passes 9 = .ok (.aload_n 0, 1) := dk_42 (dk_at dksX10_passes_0 9 rfl rfl)
theorem dX10_passes_10 : decode cX10_passes 10 = .ok (.iload_n 2, 1) := dk_28 (dk_at dksX10_passes_0 10 rfl rfl)
theorem dX10_passes_11 : decode cX10_passes 11 = .ok (.ifCond .eq 10, 3) := dk_153 0 10 (dk_at dksX10_passes_0 11 rfl rfl)
theorem dX10_passes_14 : decode cX10_passes 14 = .ok (.aload_n 0, 1) := dk_42 (dk_at dksX10_passes_0 14 rfl rfl)
theorem dX10_passes_15 : decode cX10_passes 15 = .ok (.getfield 35, 3) := dk_180 0 35 (dk_at dksX10_passes_0 15 rfl rfl)
theorem dX10_passes_18 : decode cX10_passes 18 = .ok (.goto 7, 3) := dk_167 0 7 (dk_at dksX10_passes_0 18 rfl rfl)
theorem dX10_passes_21 : decode cX10_passes 21 = .ok (.aload_n 0, 1) := dk_42 (dk_at dksX10_passes_0 21 rfl rfl)
theorem dX10_passes_22 : decode cX10_passes 22 = .ok (.getfield 25, 3) := dk_180 0 25 (dk_at dksX10_passes_1 0 rfl rfl)
theorem dX10_passes_25 : decode cX10_passes 25 = .ok (.putfield 25, 3) := dk_181 0 25 (dk_at dksX10_passes_1 3 rfl rfl)
theorem dX10_passes_28 : decode cX10_passes 28 = .ok (.iload_n 2, 1) := dk_28 (dk_at dksX10_passes_1 6 rfl rfl)
theorem dX10_passes_29 : decode cX10_passes 29 = .ok (.ireturn, 1) := dk_172 (dk_at dksX10_passes_1 7 rfl rfl)
abbrev cX10_word : ByteArray := prog_9_method_5_code
def yX10_word : MethodName := ⟨RX10, "word", "()Ljava/lang/String;"⟩
def dkwX10_word_2 : List UInt8 := [180, 0, 35, 4, 96, 181, 0, 35, 167, 255, 214, 43, 182, 0, 52, 176]
abbrev dktX10_word_2 : List UInt8 := dkwX10_word_2 ++ []
def dkwX10_word_1 : List UInt8 := [184, 0, 44, 153, 0, 30, 43, 42, 42, 180, 0, 35, 182, 0, 31, 146, 182, 0, 48, 87, 42, 89]
abbrev dktX10_word_1 : List UInt8 := dkwX10_word_1 ++ dktX10_word_2
def dkwX10_word_0 : List UInt8 := [42, 182, 0, 38, 187, 0, 41, 89, 183, 0, 43, 76, 42, 42, 180, 0, 35, 182, 0, 31, 16, 97, 16, 122]
abbrev dktX10_word_0 : List UInt8 := dkwX10_word_0 ++ dktX10_word_1
theorem dksX10_word_0 : cX10_word.data.toList.drop 0 = dktX10_word_0 := by decide +kernel
theorem dksX10_word_1 : cX10_word.data.toList.drop 24 = dktX10_word_1 := dk_seg dksX10_word_0 24 rfl rfl
theorem dksX10_word_2 : cX10_word.data.toList.drop 46 = dktX10_word_2 := dk_seg dksX10_word_1 22 rfl rfl
theorem dX10_word_0 : decode cX10_word 0 = .ok (.aload_n 0, 1) := dk_42 (dk_at dksX10_word_0 0 rfl rfl)
theorem dX10_word_1 : decode cX10_word 1 = .ok (.invokevirtual 38, 3) := dk_182 0 38 (dk_at dksX10_word_0 1 rfl rfl)
theorem dX10_word_4 : decode cX10_word 4 = .ok (.new 41, 3) := dk_187 0 41 (dk_at dksX10_word_0 4 rfl rfl)
theorem dX10_word_7 : decode cX10_word 7 = .ok (.dup, 1) := dk_89 (dk_at dksX10_word_0 7 rfl rfl)
theorem dX10_word_8 : decode cX10_word 8 = .ok (.invokespecial 43, 3) := dk_183 0 43 (dk_at dksX10_word_0 8 rfl rfl)
theorem dX10_word_11 : decode cX10_word 11 = .ok (.astore_n 1, 1) := dk_76 (dk_at dksX10_word_0 11 rfl rfl)
theorem dX10_word_12 : decode cX10_word 12 = .ok (.aload_n 0, 1) := dk_42 (dk_at dksX10_word_0 12 rfl rfl)
theorem dX10_word_13 : decode cX10_word 13 = .ok (.aload_n 0, 1) := dk_42 (dk_at dksX10_word_0 13 rfl rfl)
theorem dX10_word_14 : decode cX10_word 14 = .ok (.getfield 35, 3) := dk_180 0 35 (dk_at dksX10_word_0 14 rfl rfl)
theorem dX10_word_17 : decode cX10_word 17 = .ok (.invokevirtual 31, 3) := dk_182 0 31 (dk_at dksX10_word_0 17 rfl rfl)
theorem dX10_word_20 : decode cX10_word 20 = .ok (.bipush 97, 2) := dk_16 97 (dk_at dksX10_word_0 20 rfl rfl)
theorem dX10_word_22 : decode cX10_word 22 = .ok (.bipush 122, 2) := dk_16 122 (dk_at dksX10_word_0 22 rfl rfl)
theorem dX10_word_24 : decode cX10_word 24 = .ok (.invokestatic 44, 3) := dk_184 0 44 (dk_at dksX10_word_1 0 rfl rfl)
theorem dX10_word_27 : decode cX10_word 27 = .ok (.ifCond .eq 30, 3) := dk_153 0 30 (dk_at dksX10_word_1 3 rfl rfl)
theorem dX10_word_30 : decode cX10_word 30 = .ok (.aload_n 1, 1) := dk_43 (dk_at dksX10_word_1 6 rfl rfl)
theorem dX10_word_31 : decode cX10_word 31 = .ok (.aload_n 0, 1) := dk_42 (dk_at dksX10_word_1 7 rfl rfl)
theorem dX10_word_32 : decode cX10_word 32 = .ok (.aload_n 0, 1) := dk_42 (dk_at dksX10_word_1 8 rfl rfl)
theorem dX10_word_33 : decode cX10_word 33 = .ok (.getfield 35, 3) := dk_180 0 35 (dk_at dksX10_word_1 9 rfl rfl)
theorem dX10_word_36 : decode cX10_word 36 = .ok (.invokevirtual 31, 3) := dk_182 0 31 (dk_at dksX10_word_1 12 rfl rfl)
theorem dX10_word_39 : decode cX10_word 39 = .ok (.i2c, 1) := dk_146 (dk_at dksX10_word_1 15 rfl rfl)
theorem dX10_word_40 : decode cX10_word 40 = .ok (.invokevirtual 48, 3) := dk_182 0 48 (dk_at dksX10_word_1 16 rfl rfl)
theorem dX10_word_43 : decode cX10_word 43 = .ok (.pop, 1) := dk_87 (dk_at dksX10_word_1 19 rfl rfl)
theorem dX10_word_44 : decode cX10_word 44 = .ok (.aload_n 0, 1) := dk_42 (dk_at dksX10_word_1 20 rfl rfl)
theorem dX10_word_45 : decode cX10_word 45 = .ok (.dup, 1) := dk_89 (dk_at dksX10_word_1 21 rfl rfl)
theorem dX10_word_46 : decode cX10_word 46 = .ok (.getfield 35, 3) := dk_180 0 35 (dk_at dksX10_word_2 0 rfl rfl)
theorem dX10_word_49 : decode cX10_word 49 = .ok (.iconst 1, 1) := dk_4 (dk_at dksX10_word_2 3 rfl rfl)
theorem dX10_word_50 : decode cX10_word 50 = .ok (.iadd, 1) := dk_96 (dk_at dksX10_word_2 4 rfl rfl)
theorem dX10_word_51 : decode cX10_word 51 = .ok (.putfield 35, 3) := dk_181 0 35 (dk_at dksX10_word_2 5 rfl rfl)
theorem dX10_word_54 : decode cX10_word 54 = .ok (.goto (-42), 3) := dk_167 255 214 (dk_at dksX10_word_2 8 rfl rfl)
theorem dX10_word_57 : decode cX10_word 57 = .ok (.aload_n 1, 1) := dk_43 (dk_at dksX10_word_2 11 rfl rfl)
theorem dX10_word_58 : decode cX10_word 58 = .ok (.invokevirtual 52, 3) := dk_182 0 52 (dk_at dksX10_word_2 12 rfl rfl)
theorem dX10_word_61 : decode cX10_word 61 = .ok (.areturn, 1) := dk_176 (dk_at dksX10_word_2 15 rfl rfl)
abbrev cX10_skip : ByteArray := prog_9_method_4_code
def yX10_skip : MethodName := ⟨RX10, "skip", "()V"⟩
def dkwX10_skip_2 : List UInt8 := [177]
abbrev dktX10_skip_2 : List UInt8 := dkwX10_skip_2 ++ []
def dkwX10_skip_1 : List UInt8 := [160, 0, 16, 42, 89, 180, 0, 25, 4, 96, 181, 0, 25, 167, 255, 220, 42, 42, 180, 0, 25, 181, 0, 35]
abbrev dktX10_skip_1 : List UInt8 := dkwX10_skip_1 ++ dktX10_skip_2
def dkwX10_skip_0 : List UInt8 := [42, 42, 180, 0, 25, 182, 0, 31, 16, 32, 159, 0, 16, 42, 42, 180, 0, 25, 182, 0, 31, 16, 10]
abbrev dktX10_skip_0 : List UInt8 := dkwX10_skip_0 ++ dktX10_skip_1
theorem dksX10_skip_0 : cX10_skip.data.toList.drop 0 = dktX10_skip_0 := by decide +kernel
theorem dksX10_skip_1 : cX10_skip.data.toList.drop 23 = dktX10_skip_1 := dk_seg dksX10_skip_0 23 rfl rfl
theorem dksX10_skip_2 : cX10_skip.data.toList.drop 47 = dktX10_skip_2 := dk_seg dksX10_skip_1 24 rfl rfl
theorem dX10_skip_0 : decode cX10_skip 0 = .ok (.aload_n 0, 1) := dk_42 (dk_at dksX10_skip_0 0 rfl rfl)
theorem dX10_skip_1 : decode cX10_skip 1 = .ok (.aload_n 0, 1) := dk_42 (dk_at dksX10_skip_0 1 rfl rfl)
theorem dX10_skip_2 : decode cX10_skip 2 = .ok (.getfield 25, 3) := dk_180 0 25 (dk_at dksX10_skip_0 2 rfl rfl)
theorem dX10_skip_5 : decode cX10_skip 5 = .ok (.invokevirtual 31, 3) := dk_182 0 31 (dk_at dksX10_skip_0 5 rfl rfl)
theorem dX10_skip_8 : decode cX10_skip 8 = .ok (.bipush 32, 2) := dk_16 32 (dk_at dksX10_skip_0 8 rfl rfl)
theorem dX10_skip_10 : decode cX10_skip 10 = .ok (.if_icmp .eq 16, 3) := dk_159 0 16 (dk_at dksX10_skip_0 10 rfl rfl)
theorem dX10_skip_13 : decode cX10_skip 13 = .ok (.aload_n 0, 1) := dk_42 (dk_at dksX10_skip_0 13 rfl rfl)
theorem dX10_skip_14 : decode cX10_skip 14 = .ok (.aload_n 0, 1) := dk_42 (dk_at dksX10_skip_0 14 rfl rfl)
theorem dX10_skip_15 : decode cX10_skip 15 = .ok (.getfield 25, 3) := dk_180 0 25 (dk_at dksX10_skip_0 15 rfl rfl)
theorem dX10_skip_18 : decode cX10_skip 18 = .ok (.invokevirtual 31, 3) := dk_182 0 31 (dk_at dksX10_skip_0 18 rfl rfl)
theorem dX10_skip_21 : decode cX10_skip 21 = .ok (.bipush 10, 2) := dk_16 10 (dk_at dksX10_skip_0 21 rfl rfl)
theorem dX10_skip_23 : decode cX10_skip 23 = .ok (.if_icmp .ne 16, 3) := dk_160 0 16 (dk_at dksX10_skip_1 0 rfl rfl)
theorem dX10_skip_26 : decode cX10_skip 26 = .ok (.aload_n 0, 1) := dk_42 (dk_at dksX10_skip_1 3 rfl rfl)
theorem dX10_skip_27 : decode cX10_skip 27 = .ok (.dup, 1) := dk_89 (dk_at dksX10_skip_1 4 rfl rfl)
theorem dX10_skip_28 : decode cX10_skip 28 = .ok (.getfield 25, 3) := dk_180 0 25 (dk_at dksX10_skip_1 5 rfl rfl)
theorem dX10_skip_31 : decode cX10_skip 31 = .ok (.iconst 1, 1) := dk_4 (dk_at dksX10_skip_1 8 rfl rfl)
theorem dX10_skip_32 : decode cX10_skip 32 = .ok (.iadd, 1) := dk_96 (dk_at dksX10_skip_1 9 rfl rfl)
theorem dX10_skip_33 : decode cX10_skip 33 = .ok (.putfield 25, 3) := dk_181 0 25 (dk_at dksX10_skip_1 10 rfl rfl)
theorem dX10_skip_36 : decode cX10_skip 36 = .ok (.goto (-36), 3) := dk_167 255 220 (dk_at dksX10_skip_1 13 rfl rfl)
theorem dX10_skip_39 : decode cX10_skip 39 = .ok (.aload_n 0, 1) := dk_42 (dk_at dksX10_skip_1 16 rfl rfl)
theorem dX10_skip_40 : decode cX10_skip 40 = .ok (.aload_n 0, 1) := dk_42 (dk_at dksX10_skip_1 17 rfl rfl)
theorem dX10_skip_41 : decode cX10_skip 41 = .ok (.getfield 25, 3) := dk_180 0 25 (dk_at dksX10_skip_1 18 rfl rfl)
theorem dX10_skip_44 : decode cX10_skip 44 = .ok (.putfield 35, 3) := dk_181 0 35 (dk_at dksX10_skip_1 21 rfl rfl)
theorem dX10_skip_47 : decode cX10_skip 47 = .ok (.return_, 1) := dk_177 (dk_at dksX10_skip_2 0 rfl rfl)
abbrev cX10_byteAt : ByteArray := prog_9_method_2_code
def yX10_byteAt : MethodName := ⟨RX10, "byteAt", "(I)I"⟩
def dkwX10_byteAt_1 : List UInt8 := [2, 172]
abbrev dktX10_byteAt_1 : List UInt8 := dkwX10_byteAt_1 ++ []
def dkwX10_byteAt_0 : List UInt8 := [27, 42, 180, 0, 15, 162, 0, 19, 42, 180, 0, 3, 180, 0, 19, 27, 51, 17, 0, 255, 126, 167, 0, 4]
abbrev dktX10_byteAt_0 : List UInt8 := dkwX10_byteAt_0 ++ dktX10_byteAt_1
theorem dksX10_byteAt_0 : cX10_byteAt.data.toList.drop 0 = dktX10_byteAt_0 := by decide +kernel
theorem dksX10_byteAt_1 : cX10_byteAt.data.toList.drop 24 = dktX10_byteAt_1 := dk_seg dksX10_byteAt_0 24 rfl rfl
theorem dX10_byteAt_0 : decode cX10_byteAt 0 = .ok (.iload_n 1, 1) := dk_27 (dk_at dksX10_byteAt_0 0 rfl rfl)
theorem dX10_byteAt_1 : decode cX10_byteAt 1 = .ok (.aload_n 0, 1) := dk_42 (dk_at dksX10_byteAt_0 1 rfl rfl)
theorem dX10_byteAt_2 : decode cX10_byteAt 2 = .ok (.getfield 15, 3) := dk_180 0 15 (dk_at dksX10_byteAt_0 2 rfl rfl)
theorem dX10_byteAt_5 : decode cX10_byteAt 5 = .ok (.if_icmp .ge 19, 3) := dk_162 0 19 (dk_at dksX10_byteAt_0 5 rfl rfl)
theorem dX10_byteAt_8 : decode cX10_byteAt 8 = .ok (.aload_n 0, 1) := dk_42 (dk_at dksX10_byteAt_0 8 rfl rfl)
theorem dX10_byteAt_9 : decode cX10_byteAt 9 = .ok (.getfield 3, 3) := dk_180 0 3 (dk_at dksX10_byteAt_0 9 rfl rfl)
theorem dX10_byteAt_12 : decode cX10_byteAt 12 = .ok (.getfield 19, 3) := dk_180 0 19 (dk_at dksX10_byteAt_0 12 rfl rfl)
theorem dX10_byteAt_15 : decode cX10_byteAt 15 = .ok (.iload_n 1, 1) := dk_27 (dk_at dksX10_byteAt_0 15 rfl rfl)
theorem dX10_byteAt_16 : decode cX10_byteAt 16 = .ok (.baload, 1) := dk_51 (dk_at dksX10_byteAt_0 16 rfl rfl)
theorem dX10_byteAt_17 : decode cX10_byteAt 17 = .ok (.sipush 255, 3) := dk_17 0 255 (dk_at dksX10_byteAt_0 17 rfl rfl)
theorem dX10_byteAt_20 : decode cX10_byteAt 20 = .ok (.iand, 1) := dk_126 (dk_at dksX10_byteAt_0 20 rfl rfl)
theorem dX10_byteAt_21 : decode cX10_byteAt 21 = .ok (.goto 4, 3) := dk_167 0 4 (dk_at dksX10_byteAt_0 21 rfl rfl)
theorem dX10_byteAt_24 : decode cX10_byteAt 24 = .ok (.iconst (-1), 1) := dk_2 (dk_at dksX10_byteAt_1 0 rfl rfl)
theorem dX10_byteAt_25 : decode cX10_byteAt 25 = .ok (.ireturn, 1) := dk_172 (dk_at dksX10_byteAt_1 1 rfl rfl)
abbrev cX10_need : ByteArray := prog_9_method_3_code
def yX10_need : MethodName := ⟨RX10, "need", "(ZI)V"⟩
def dkwX10_need_0 : List UInt8 := [27, 154, 0, 16, 187, 0, 23, 89, 28, 42, 180, 0, 25, 183, 0, 28, 191, 177]
abbrev dktX10_need_0 : List UInt8 := dkwX10_need_0 ++ []
theorem dksX10_need_0 : cX10_need.data.toList.drop 0 = dktX10_need_0 := by decide +kernel
theorem dX10_need_0 : decode cX10_need 0 = .ok (.iload_n 1, 1) := dk_27 (dk_at dksX10_need_0 0 rfl rfl)
theorem dX10_need_1 : decode cX10_need 1 = .ok (.ifCond .ne 16, 3) := dk_154 0 16 (dk_at dksX10_need_0 1 rfl rfl)
theorem dX10_need_4 : decode cX10_need 4 = .ok (.new 23, 3) := dk_187 0 23 (dk_at dksX10_need_0 4 rfl rfl)
theorem dX10_need_7 : decode cX10_need 7 = .ok (.dup, 1) := dk_89 (dk_at dksX10_need_0 7 rfl rfl)
theorem dX10_need_8 : decode cX10_need 8 = .ok (.iload_n 2, 1) := dk_28 (dk_at dksX10_need_0 8 rfl rfl)
theorem dX10_need_9 : decode cX10_need 9 = .ok (.aload_n 0, 1) := dk_42 (dk_at dksX10_need_0 9 rfl rfl)
theorem dX10_need_10 : decode cX10_need 10 = .ok (.getfield 25, 3) := dk_180 0 25 (dk_at dksX10_need_0 10 rfl rfl)
theorem dX10_need_13 : decode cX10_need 13 = .ok (.invokespecial 28, 3) := dk_183 0 28 (dk_at dksX10_need_0 13 rfl rfl)
theorem dX10_need_16 : decode cX10_need 16 = .ok (.athrow, 1) := dk_191 (dk_at dksX10_need_0 16 rfl rfl)
theorem dX10_need_17 : decode cX10_need 17 = .ok (.return_, 1) := dk_177 (dk_at dksX10_need_0 17 rfl rfl)
abbrev cX10_number : ByteArray := prog_9_method_8_code
def yX10_number : MethodName := ⟨RX10, "number", "(II)I"⟩
def dkwX10_number_0 : List UInt8 := [42, 27, 28, 182, 0, 76, 62, 42, 42, 180, 0, 35, 181, 0, 25, 29, 172]
abbrev dktX10_number_0 : List UInt8 := dkwX10_number_0 ++ []
theorem dksX10_number_0 : cX10_number.data.toList.drop 0 = dktX10_number_0 := by decide +kernel
theorem dX10_number_0 : decode cX10_number 0 = .ok (.aload_n 0, 1) := dk_42 (dk_at dksX10_number_0 0 rfl rfl)
theorem dX10_number_1 : decode cX10_number 1 = .ok (.iload_n 1, 1) := dk_27 (dk_at dksX10_number_0 1 rfl rfl)
theorem dX10_number_2 : decode cX10_number 2 = .ok (.iload_n 2, 1) := dk_28 (dk_at dksX10_number_0 2 rfl rfl)
theorem dX10_number_3 : decode cX10_number 3 = .ok (.invokevirtual 76, 3) := dk_182 0 76 (dk_at dksX10_number_0 3 rfl rfl)
theorem dX10_number_6 : decode cX10_number 6 = .ok (.istore_n 3, 1) := dk_62 (dk_at dksX10_number_0 6 rfl rfl)
theorem dX10_number_7 : decode cX10_number 7 = .ok (.aload_n 0, 1) := dk_42 (dk_at dksX10_number_0 7 rfl rfl)
theorem dX10_number_8 : decode cX10_number 8 = .ok (.aload_n 0, 1) := dk_42 (dk_at dksX10_number_0 8 rfl rfl)
theorem dX10_number_9 : decode cX10_number 9 = .ok (.getfield 35, 3) := dk_180 0 35 (dk_at dksX10_number_0 9 rfl rfl)
theorem dX10_number_12 : decode cX10_number 12 = .ok (.putfield 25, 3) := dk_181 0 25 (dk_at dksX10_number_0 12 rfl rfl)
theorem dX10_number_15 : decode cX10_number 15 = .ok (.iload_n 3, 1) := dk_29 (dk_at dksX10_number_0 15 rfl rfl)
theorem dX10_number_16 : decode cX10_number 16 = .ok (.ireturn, 1) := dk_172 (dk_at dksX10_number_0 16 rfl rfl)
abbrev cX10_ahead : ByteArray := prog_9_method_7_code
def yX10_ahead : MethodName := ⟨RX10, "ahead", "(II)I"⟩
def dkwX10_ahead_4 : List UInt8 := [28, 184, 0, 44, 5, 182, 0, 72, 29, 172]
abbrev dktX10_ahead_4 : List UInt8 := dkwX10_ahead_4 ++ []
def dkwX10_ahead_3 : List UInt8 := [180, 0, 35, 42, 180, 0, 25, 100, 7, 163, 0, 7, 4, 167, 0, 4, 3, 4, 182, 0, 72, 42, 29, 27]
abbrev dktX10_ahead_3 : List UInt8 := dkwX10_ahead_3 ++ dktX10_ahead_4
def dkwX10_ahead_2 : List UInt8 := [180, 0, 35, 4, 96, 181, 0, 35, 167, 255, 206, 42, 42, 180, 0, 35, 42, 180, 0, 25, 164, 0, 20, 42]
abbrev dktX10_ahead_2 : List UInt8 := dkwX10_ahead_2 ++ dktX10_ahead_3
def dkwX10_ahead_1 : List UInt8 := [18, 65, 16, 10, 29, 104, 42, 42, 180, 0, 35, 182, 0, 31, 96, 16, 48, 100, 184, 0, 66, 62, 42, 89]
abbrev dktX10_ahead_1 : List UInt8 := dkwX10_ahead_1 ++ dktX10_ahead_2
def dkwX10_ahead_0 : List UInt8 := [42, 182, 0, 38, 3, 62, 42, 42, 180, 0, 35, 182, 0, 31, 16, 48, 16, 57, 184, 0, 44, 153, 0, 38]
abbrev dktX10_ahead_0 : List UInt8 := dkwX10_ahead_0 ++ dktX10_ahead_1
theorem dksX10_ahead_0 : cX10_ahead.data.toList.drop 0 = dktX10_ahead_0 := by decide +kernel
theorem dksX10_ahead_1 : cX10_ahead.data.toList.drop 24 = dktX10_ahead_1 := dk_seg dksX10_ahead_0 24 rfl rfl
theorem dksX10_ahead_2 : cX10_ahead.data.toList.drop 48 = dktX10_ahead_2 := dk_seg dksX10_ahead_1 24 rfl rfl
theorem dksX10_ahead_3 : cX10_ahead.data.toList.drop 72 = dktX10_ahead_3 := dk_seg dksX10_ahead_2 24 rfl rfl
theorem dksX10_ahead_4 : cX10_ahead.data.toList.drop 96 = dktX10_ahead_4 := dk_seg dksX10_ahead_3 24 rfl rfl
theorem dX10_ahead_0 : decode cX10_ahead 0 = .ok (.aload_n 0, 1) := dk_42 (dk_at dksX10_ahead_0 0 rfl rfl)
theorem dX10_ahead_1 : decode cX10_ahead 1 = .ok (.invokevirtual 38, 3) := dk_182 0 38 (dk_at dksX10_ahead_0 1 rfl rfl)
theorem dX10_ahead_4 : decode cX10_ahead 4 = .ok (.iconst 0, 1) := dk_3 (dk_at dksX10_ahead_0 4 rfl rfl)
theorem dX10_ahead_5 : decode cX10_ahead 5 = .ok (.istore_n 3, 1) := dk_62 (dk_at dksX10_ahead_0 5 rfl rfl)
theorem dX10_ahead_6 : decode cX10_ahead 6 = .ok (.aload_n 0, 1) := dk_42 (dk_at dksX10_ahead_0 6 rfl rfl)
theorem dX10_ahead_7 : decode cX10_ahead 7 = .ok (.aload_n 0, 1) := dk_42 (dk_at dksX10_ahead_0 7 rfl rfl)
theorem dX10_ahead_8 : decode cX10_ahead 8 = .ok (.getfield 35, 3) := dk_180 0 35 (dk_at dksX10_ahead_0 8 rfl rfl)
theorem dX10_ahead_11 : decode cX10_ahead 11 = .ok (.invokevirtual 31, 3) := dk_182 0 31 (dk_at dksX10_ahead_0 11 rfl rfl)
theorem dX10_ahead_14 : decode cX10_ahead 14 = .ok (.bipush 48, 2) := dk_16 48 (dk_at dksX10_ahead_0 14 rfl rfl)
theorem dX10_ahead_16 : decode cX10_ahead 16 = .ok (.bipush 57, 2) := dk_16 57 (dk_at dksX10_ahead_0 16 rfl rfl)
theorem dX10_ahead_18 : decode cX10_ahead 18 = .ok (.invokestatic 44, 3) := dk_184 0 44 (dk_at dksX10_ahead_0 18 rfl rfl)
theorem dX10_ahead_21 : decode cX10_ahead 21 = .ok (.ifCond .eq 38, 3) := dk_153 0 38 (dk_at dksX10_ahead_0 21 rfl rfl)
theorem dX10_ahead_24 : decode cX10_ahead 24 = .ok (.ldc 65, 2) := dk_18 65 (dk_at dksX10_ahead_1 0 rfl rfl)
theorem dX10_ahead_26 : decode cX10_ahead 26 = .ok (.bipush 10, 2) := dk_16 10 (dk_at dksX10_ahead_1 2 rfl rfl)
theorem dX10_ahead_28 : decode cX10_ahead 28 = .ok (.iload_n 3, 1) := dk_29 (dk_at dksX10_ahead_1 4 rfl rfl)
theorem dX10_ahead_29 : decode cX10_ahead 29 = .ok (.imul, 1) := dk_104 (dk_at dksX10_ahead_1 5 rfl rfl)
theorem dX10_ahead_30 : decode cX10_ahead 30 = .ok (.aload_n 0, 1) := dk_42 (dk_at dksX10_ahead_1 6 rfl rfl)
theorem dX10_ahead_31 : decode cX10_ahead 31 = .ok (.aload_n 0, 1) := dk_42 (dk_at dksX10_ahead_1 7 rfl rfl)
theorem dX10_ahead_32 : decode cX10_ahead 32 = .ok (.getfield 35, 3) := dk_180 0 35 (dk_at dksX10_ahead_1 8 rfl rfl)
theorem dX10_ahead_35 : decode cX10_ahead 35 = .ok (.invokevirtual 31, 3) := dk_182 0 31 (dk_at dksX10_ahead_1 11 rfl rfl)
theorem dX10_ahead_38 : decode cX10_ahead 38 = .ok (.iadd, 1) := dk_96 (dk_at dksX10_ahead_1 14 rfl rfl)
theorem dX10_ahead_39 : decode cX10_ahead 39 = .ok (.bipush 48, 2) := dk_16 48 (dk_at dksX10_ahead_1 15 rfl rfl)
theorem dX10_ahead_41 : decode cX10_ahead 41 = .ok (.isub, 1) := dk_100 (dk_at dksX10_ahead_1 17 rfl rfl)
theorem dX10_ahead_42 : decode cX10_ahead 42 = .ok (.invokestatic 66, 3) := dk_184 0 66 (dk_at dksX10_ahead_1 18 rfl rfl)
theorem dX10_ahead_45 : decode cX10_ahead 45 = .ok (.istore_n 3, 1) := dk_62 (dk_at dksX10_ahead_1 21 rfl rfl)
theorem dX10_ahead_46 : decode cX10_ahead 46 = .ok (.aload_n 0, 1) := dk_42 (dk_at dksX10_ahead_1 22 rfl rfl)
theorem dX10_ahead_47 : decode cX10_ahead 47 = .ok (.dup, 1) := dk_89 (dk_at dksX10_ahead_1 23 rfl rfl)
theorem dX10_ahead_48 : decode cX10_ahead 48 = .ok (.getfield 35, 3) := dk_180 0 35 (dk_at dksX10_ahead_2 0 rfl rfl)
theorem dX10_ahead_51 : decode cX10_ahead 51 = .ok (.iconst 1, 1) := dk_4 (dk_at dksX10_ahead_2 3 rfl rfl)
theorem dX10_ahead_52 : decode cX10_ahead 52 = .ok (.iadd, 1) := dk_96 (dk_at dksX10_ahead_2 4 rfl rfl)
theorem dX10_ahead_53 : decode cX10_ahead 53 = .ok (.putfield 35, 3) := dk_181 0 35 (dk_at dksX10_ahead_2 5 rfl rfl)
theorem dX10_ahead_56 : decode cX10_ahead 56 = .ok (.goto (-50), 3) := dk_167 255 206 (dk_at dksX10_ahead_2 8 rfl rfl)
theorem dX10_ahead_59 : decode cX10_ahead 59 = .ok (.aload_n 0, 1) := dk_42 (dk_at dksX10_ahead_2 11 rfl rfl)
theorem dX10_ahead_60 : decode cX10_ahead 60 = .ok (.aload_n 0, 1) := dk_42 (dk_at dksX10_ahead_2 12 rfl rfl)
theorem dX10_ahead_61 : decode cX10_ahead 61 = .ok (.getfield 35, 3) := dk_180 0 35 (dk_at dksX10_ahead_2 13 rfl rfl)
theorem dX10_ahead_64 : decode cX10_ahead 64 = .ok (.aload_n 0, 1) := dk_42 (dk_at dksX10_ahead_2 16 rfl rfl)
theorem dX10_ahead_65 : decode cX10_ahead 65 = .ok (.getfield 25, 3) := dk_180 0 25 (dk_at dksX10_ahead_2 17 rfl rfl)
theorem dX10_ahead_68 : decode cX10_ahead 68 = .ok (.if_icmp .le 20, 3) := dk_164 0 20 (dk_at dksX10_ahead_2 20 rfl rfl)
theorem dX10_ahead_71 : decode cX10_ahead 71 = .ok (.aload_n 0, 1) := dk_42 (dk_at dksX10_ahead_2 23 rfl rfl)
theorem dX10_ahead_72 : decode cX10_ahead 72 = .ok (.getfield 35, 3) := dk_180 0 35 (dk_at dksX10_ahead_3 0 rfl rfl)
theorem dX10_ahead_75 : decode cX10_ahead 75 = .ok (.aload_n 0, 1) := dk_42 (dk_at dksX10_ahead_3 3 rfl rfl)
theorem dX10_ahead_76 : decode cX10_ahead 76 = .ok (.getfield 25, 3) := dk_180 0 25 (dk_at dksX10_ahead_3 4 rfl rfl)
theorem dX10_ahead_79 : decode cX10_ahead 79 = .ok (.isub, 1) := dk_100 (dk_at dksX10_ahead_3 7 rfl rfl)
theorem dX10_ahead_80 : decode cX10_ahead 80 = .ok (.iconst 4, 1) := dk_7 (dk_at dksX10_ahead_3 8 rfl rfl)
theorem dX10_ahead_81 : decode cX10_ahead 81 = .ok (.if_icmp .gt 7, 3) := dk_163 0 7 (dk_at dksX10_ahead_3 9 rfl rfl)
theorem dX10_ahead_84 : decode cX10_ahead 84 = .ok (.iconst 1, 1) := dk_4 (dk_at dksX10_ahead_3 12 rfl rfl)
theorem dX10_ahead_85 : decode cX10_ahead 85 = .ok (.goto 4, 3) := dk_167 0 4 (dk_at dksX10_ahead_3 13 rfl rfl)
theorem dX10_ahead_88 : decode cX10_ahead 88 = .ok (.iconst 0, 1) := dk_3 (dk_at dksX10_ahead_3 16 rfl rfl)
theorem dX10_ahead_89 : decode cX10_ahead 89 = .ok (.iconst 1, 1) := dk_4 (dk_at dksX10_ahead_3 17 rfl rfl)
theorem dX10_ahead_90 : decode cX10_ahead 90 = .ok (.invokevirtual 72, 3) := dk_182 0 72 (dk_at dksX10_ahead_3 18 rfl rfl)
theorem dX10_ahead_93 : decode cX10_ahead 93 = .ok (.aload_n 0, 1) := dk_42 (dk_at dksX10_ahead_3 21 rfl rfl)
theorem dX10_ahead_94 : decode cX10_ahead 94 = .ok (.iload_n 3, 1) := dk_29 (dk_at dksX10_ahead_3 22 rfl rfl)
theorem dX10_ahead_95 : decode cX10_ahead 95 = .ok (.iload_n 1, 1) := dk_27 (dk_at dksX10_ahead_3 23 rfl rfl)
theorem dX10_ahead_96 : decode cX10_ahead 96 = .ok (.iload_n 2, 1) := dk_28 (dk_at dksX10_ahead_4 0 rfl rfl)
theorem dX10_ahead_97 : decode cX10_ahead 97 = .ok (.invokestatic 44, 3) := dk_184 0 44 (dk_at dksX10_ahead_4 1 rfl rfl)
theorem dX10_ahead_100 : decode cX10_ahead 100 = .ok (.iconst 2, 1) := dk_5 (dk_at dksX10_ahead_4 4 rfl rfl)
theorem dX10_ahead_101 : decode cX10_ahead 101 = .ok (.invokevirtual 72, 3) := dk_182 0 72 (dk_at dksX10_ahead_4 5 rfl rfl)
theorem dX10_ahead_104 : decode cX10_ahead 104 = .ok (.iload_n 3, 1) := dk_29 (dk_at dksX10_ahead_4 8 rfl rfl)
theorem dX10_ahead_105 : decode cX10_ahead 105 = .ok (.ireturn, 1) := dk_172 (dk_at dksX10_ahead_4 9 rfl rfl)
abbrev cX10_semicolon : ByteArray := prog_9_method_9_code
def yX10_semicolon : MethodName := ⟨RX10, "semicolon", "()V"⟩
def dkwX10_semicolon_1 : List UInt8 := [182, 0, 72, 42, 89, 180, 0, 25, 4, 96, 181, 0, 25, 177]
abbrev dktX10_semicolon_1 : List UInt8 := dkwX10_semicolon_1 ++ []
def dkwX10_semicolon_0 : List UInt8 := [42, 182, 0, 38, 42, 42, 42, 180, 0, 25, 182, 0, 31, 16, 59, 160, 0, 7, 4, 167, 0, 4, 3, 4]
abbrev dktX10_semicolon_0 : List UInt8 := dkwX10_semicolon_0 ++ dktX10_semicolon_1
theorem dksX10_semicolon_0 : cX10_semicolon.data.toList.drop 0 = dktX10_semicolon_0 := by decide +kernel
theorem dksX10_semicolon_1 : cX10_semicolon.data.toList.drop 24 = dktX10_semicolon_1 := dk_seg dksX10_semicolon_0 24 rfl rfl
theorem dX10_semicolon_0 : decode cX10_semicolon 0 = .ok (.aload_n 0, 1) := dk_42 (dk_at dksX10_semicolon_0 0 rfl rfl)
theorem dX10_semicolon_1 : decode cX10_semicolon 1 = .ok (.invokevirtual 38, 3) := dk_182 0 38 (dk_at dksX10_semicolon_0 1 rfl rfl)
theorem dX10_semicolon_4 : decode cX10_semicolon 4 = .ok (.aload_n 0, 1) := dk_42 (dk_at dksX10_semicolon_0 4 rfl rfl)
theorem dX10_semicolon_5 : decode cX10_semicolon 5 = .ok (.aload_n 0, 1) := dk_42 (dk_at dksX10_semicolon_0 5 rfl rfl)
theorem dX10_semicolon_6 : decode cX10_semicolon 6 = .ok (.aload_n 0, 1) := dk_42 (dk_at dksX10_semicolon_0 6 rfl rfl)
theorem dX10_semicolon_7 : decode cX10_semicolon 7 = .ok (.getfield 25, 3) := dk_180 0 25 (dk_at dksX10_semicolon_0 7 rfl rfl)
theorem dX10_semicolon_10 : decode cX10_semicolon 10 = .ok (.invokevirtual 31, 3) := dk_182 0 31 (dk_at dksX10_semicolon_0 10 rfl rfl)
theorem dX10_semicolon_13 : decode cX10_semicolon 13 = .ok (.bipush 59, 2) := dk_16 59 (dk_at dksX10_semicolon_0 13 rfl rfl)
theorem dX10_semicolon_15 : decode cX10_semicolon 15 = .ok (.if_icmp .ne 7, 3) := dk_160 0 7 (dk_at dksX10_semicolon_0 15 rfl rfl)
theorem dX10_semicolon_18 : decode cX10_semicolon 18 = .ok (.iconst 1, 1) := dk_4 (dk_at dksX10_semicolon_0 18 rfl rfl)
theorem dX10_semicolon_19 : decode cX10_semicolon 19 = .ok (.goto 4, 3) := dk_167 0 4 (dk_at dksX10_semicolon_0 19 rfl rfl)
theorem dX10_semicolon_22 : decode cX10_semicolon 22 = .ok (.iconst 0, 1) := dk_3 (dk_at dksX10_semicolon_0 22 rfl rfl)
theorem dX10_semicolon_23 : decode cX10_semicolon 23 = .ok (.iconst 1, 1) := dk_4 (dk_at dksX10_semicolon_0 23 rfl rfl)
theorem dX10_semicolon_24 : decode cX10_semicolon 24 = .ok (.invokevirtual 72, 3) := dk_182 0 72 (dk_at dksX10_semicolon_1 0 rfl rfl)
theorem dX10_semicolon_27 : decode cX10_semicolon 27 = .ok (.aload_n 0, 1) := dk_42 (dk_at dksX10_semicolon_1 3 rfl rfl)
theorem dX10_semicolon_28 : decode cX10_semicolon 28 = .ok (.dup, 1) := dk_89 (dk_at dksX10_semicolon_1 4 rfl rfl)
theorem dX10_semicolon_29 : decode cX10_semicolon 29 = .ok (.getfield 25, 3) := dk_180 0 25 (dk_at dksX10_semicolon_1 5 rfl rfl)
theorem dX10_semicolon_32 : decode cX10_semicolon 32 = .ok (.iconst 1, 1) := dk_4 (dk_at dksX10_semicolon_1 8 rfl rfl)
theorem dX10_semicolon_33 : decode cX10_semicolon 33 = .ok (.iadd, 1) := dk_96 (dk_at dksX10_semicolon_1 9 rfl rfl)
theorem dX10_semicolon_34 : decode cX10_semicolon 34 = .ok (.putfield 25, 3) := dk_181 0 25 (dk_at dksX10_semicolon_1 10 rfl rfl)
theorem dX10_semicolon_37 : decode cX10_semicolon 37 = .ok (.return_, 1) := dk_177 (dk_at dksX10_semicolon_1 13 rfl rfl)
abbrev cX10_statement : ByteArray := prog_9_method_16_code
def yX10_statement : MethodName := ⟨RX10, "statement", "()V"⟩
def dkwX10_statement_18 : List UInt8 := [187, 0, 23, 89, 4, 28, 183, 0, 28, 191, 42, 182, 0, 138, 177]
abbrev dktX10_statement_18 : List UInt8 := dkwX10_statement_18 ++ []
def dkwX10_statement_17 : List UInt8 := [180, 0, 79, 42, 4, 16, 99, 182, 0, 88, 181, 0, 190, 167, 0, 20, 42, 182, 0, 192, 167, 0, 13]
abbrev dktX10_statement_17 : List UInt8 := dkwX10_statement_17 ++ dktX10_statement_18
def dkwX10_statement_16 : List UInt8 := [182, 0, 186, 167, 0, 53, 42, 180, 0, 79, 42, 3, 6, 182, 0, 88, 181, 0, 188, 167, 0, 37, 42]
abbrev dktX10_statement_16 : List UInt8 := dkwX10_statement_16 ++ dktX10_statement_17
def dkwX10_statement_15 : List UInt8 := [21, 5, 187, 0, 183, 89, 21, 5, 42, 3, 6, 182, 0, 88, 183, 0, 185, 83, 167, 0, 60, 42]
abbrev dktX10_statement_15 : List UInt8 := dkwX10_statement_15 ++ dktX10_statement_16
def dkwX10_statement_14 : List UInt8 := [182, 0, 88, 183, 0, 182, 83, 167, 0, 95, 42, 2, 182, 0, 112, 54, 5, 42, 180, 0, 79, 180, 0, 94]
abbrev dktX10_statement_14 : List UInt8 := dkwX10_statement_14 ++ dktX10_statement_15
def dkwX10_statement_13 : List UInt8 := [182, 0, 112, 54, 5, 42, 180, 0, 79, 180, 0, 94, 21, 5, 187, 0, 180, 89, 21, 5, 42, 4, 5]
abbrev dktX10_statement_13 : List UInt8 := dkwX10_statement_13 ++ dktX10_statement_14
def dkwX10_statement_12 : List UInt8 := [183, 0, 174, 83, 167, 0, 143, 42, 43, 18, 150, 182, 0, 59, 182, 0, 177, 167, 0, 130, 42, 2]
abbrev dktX10_statement_12 : List UInt8 := dkwX10_statement_12 ++ dktX10_statement_13
def dkwX10_statement_11 : List UInt8 := [42, 2, 182, 0, 112, 54, 5, 42, 180, 0, 79, 180, 0, 94, 21, 5, 187, 0, 172, 89, 21, 5]
abbrev dktX10_statement_11 : List UInt8 := dkwX10_statement_11 ++ dktX10_statement_12
def dkwX10_statement_10 : List UInt8 := [170, 0, 0, 0, 0, 0, 210, 0, 0, 0, 0, 0, 0, 0, 8, 0, 0, 0, 51, 0, 0, 0, 80, 0, 0, 0, 80, 0, 0, 0, 93, 0, 0, 0, 128, 0, 0, 0, 163, 0, 0, 0, 170, 0, 0, 0, 186, 0, 0, 0, 203]
abbrev dktX10_statement_10 : List UInt8 := dkwX10_statement_10 ++ dktX10_statement_11
def dkwX10_statement_9 : List UInt8 := [167, 0, 16, 45, 18, 159, 182, 0, 59, 153, 0, 7, 16, 8, 54, 4, 21, 4]
abbrev dktX10_statement_9 : List UInt8 := dkwX10_statement_9 ++ dktX10_statement_10
def dkwX10_statement_8 : List UInt8 := [153, 0, 39, 16, 6, 54, 4, 167, 0, 32, 45, 18, 170, 182, 0, 59, 153, 0, 23, 16, 7, 54, 4]
abbrev dktX10_statement_8 : List UInt8 := dkwX10_statement_8 ++ dktX10_statement_9
def dkwX10_statement_7 : List UInt8 := [167, 0, 63, 45, 18, 154, 182, 0, 59, 153, 0, 54, 8, 54, 4, 167, 0, 48, 45, 18, 168, 182, 0, 59]
abbrev dktX10_statement_7 : List UInt8 := dkwX10_statement_7 ++ dktX10_statement_8
def dkwX10_statement_6 : List UInt8 := [182, 0, 59, 153, 0, 84, 6, 54, 4, 167, 0, 78, 45, 18, 166, 182, 0, 59, 153, 0, 69, 7, 54, 4]
abbrev dktX10_statement_6 : List UInt8 := dkwX10_statement_6 ++ dktX10_statement_7
def dkwX10_statement_5 : List UInt8 := [4, 54, 4, 167, 0, 108, 45, 18, 150, 182, 0, 59, 153, 0, 99, 5, 54, 4, 167, 0, 93, 45, 18, 152]
abbrev dktX10_statement_5 : List UInt8 := dkwX10_statement_5 ++ dktX10_statement_6
def dkwX10_statement_4 : List UInt8 := [45, 18, 164, 182, 0, 59, 153, 0, 129, 3, 54, 4, 167, 0, 123, 45, 18, 148, 182, 0, 59, 153, 0, 114]
abbrev dktX10_statement_4 : List UInt8 := dkwX10_statement_4 ++ dktX10_statement_5
def dkwX10_statement_3 : List UInt8 := [171, 0, 0, 0, 216, 0, 0, 0, 9, 191, 253, 107, 191, 0, 0, 0, 96, 197, 112, 136, 108, 0, 0, 0, 156, 0, 47, 35, 174, 0, 0, 0, 126, 0, 48, 76, 203, 0, 0, 0, 141, 0, 48, 192, 51, 0, 0, 0, 111, 0, 50, 197, 43, 0, 0, 0, 171, 0, 54, 128, 125, 0, 0, 0, 203, 0, 55, 145, 202, 0, 0, 0, 81, 6, 35, 75, 187, 0, 0, 0, 187]
abbrev dktX10_statement_3 : List UInt8 := dkwX10_statement_3 ++ dktX10_statement_4
def dkwX10_statement_2 : List UInt8 := [42, 180, 0, 35, 181, 0, 25, 43, 78, 2, 54, 4, 45, 182, 0, 145]
abbrev dktX10_statement_2 : List UInt8 := dkwX10_statement_2 ++ dktX10_statement_3
def dkwX10_statement_1 : List UInt8 := [167, 0, 4, 3, 4, 182, 0, 72, 42, 42, 43, 182, 0, 161, 7, 182, 0, 72, 42, 180, 0, 25, 61, 42]
abbrev dktX10_statement_1 : List UInt8 := dkwX10_statement_1 ++ dktX10_statement_2
def dkwX10_statement_0 : List UInt8 := [42, 182, 0, 56, 76, 42, 42, 180, 0, 128, 153, 0, 12, 43, 18, 159, 182, 0, 59, 153, 0, 7, 4]
abbrev dktX10_statement_0 : List UInt8 := dkwX10_statement_0 ++ dktX10_statement_1
theorem dksX10_statement_0 : cX10_statement.data.toList.drop 0 = dktX10_statement_0 := by decide +kernel
theorem dksX10_statement_1 : cX10_statement.data.toList.drop 23 = dktX10_statement_1 := dk_seg dksX10_statement_0 23 rfl rfl
theorem dksX10_statement_2 : cX10_statement.data.toList.drop 47 = dktX10_statement_2 := dk_seg dksX10_statement_1 24 rfl rfl
theorem dksX10_statement_3 : cX10_statement.data.toList.drop 63 = dktX10_statement_3 := dk_seg dksX10_statement_2 16 rfl rfl
theorem dksX10_statement_4 : cX10_statement.data.toList.drop 144 = dktX10_statement_4 := dk_seg dksX10_statement_3 81 rfl rfl
theorem dksX10_statement_5 : cX10_statement.data.toList.drop 168 = dktX10_statement_5 := dk_seg dksX10_statement_4 24 rfl rfl
theorem dksX10_statement_6 : cX10_statement.data.toList.drop 192 = dktX10_statement_6 := dk_seg dksX10_statement_5 24 rfl rfl
theorem dksX10_statement_7 : cX10_statement.data.toList.drop 216 = dktX10_statement_7 := dk_seg dksX10_statement_6 24 rfl rfl
theorem dksX10_statement_8 : cX10_statement.data.toList.drop 240 = dktX10_statement_8 := dk_seg dksX10_statement_7 24 rfl rfl
theorem dksX10_statement_9 : cX10_statement.data.toList.drop 263 = dktX10_statement_9 := dk_seg dksX10_statement_8 23 rfl rfl
theorem dksX10_statement_10 : cX10_statement.data.toList.drop 281 = dktX10_statement_10 := dk_seg dksX10_statement_9 18 rfl rfl
theorem dksX10_statement_11 : cX10_statement.data.toList.drop 332 = dktX10_statement_11 := dk_seg dksX10_statement_10 51 rfl rfl
theorem dksX10_statement_12 : cX10_statement.data.toList.drop 354 = dktX10_statement_12 := dk_seg dksX10_statement_11 22 rfl rfl
theorem dksX10_statement_13 : cX10_statement.data.toList.drop 376 = dktX10_statement_13 := dk_seg dksX10_statement_12 22 rfl rfl
theorem dksX10_statement_14 : cX10_statement.data.toList.drop 399 = dktX10_statement_14 := dk_seg dksX10_statement_13 23 rfl rfl
theorem dksX10_statement_15 : cX10_statement.data.toList.drop 423 = dktX10_statement_15 := dk_seg dksX10_statement_14 24 rfl rfl
theorem dksX10_statement_16 : cX10_statement.data.toList.drop 445 = dktX10_statement_16 := dk_seg dksX10_statement_15 22 rfl rfl
theorem dksX10_statement_17 : cX10_statement.data.toList.drop 468 = dktX10_statement_17 := dk_seg dksX10_statement_16 23 rfl rfl
theorem dksX10_statement_18 : cX10_statement.data.toList.drop 491 = dktX10_statement_18 := dk_seg dksX10_statement_17 23 rfl rfl
theorem dX10_statement_0 : decode cX10_statement 0 = .ok (.aload_n 0, 1) := dk_42 (dk_at dksX10_statement_0 0 rfl rfl)
theorem dX10_statement_1 : decode cX10_statement 1 = .ok (.invokevirtual 56, 3) := dk_182 0 56 (dk_at dksX10_statement_0 1 rfl rfl)
theorem dX10_statement_4 : decode cX10_statement 4 = .ok (.astore_n 1, 1) := dk_76 (dk_at dksX10_statement_0 4 rfl rfl)
theorem dX10_statement_5 : decode cX10_statement 5 = .ok (.aload_n 0, 1) := dk_42 (dk_at dksX10_statement_0 5 rfl rfl)
theorem dX10_statement_6 : decode cX10_statement 6 = .ok (.aload_n 0, 1) := dk_42 (dk_at dksX10_statement_0 6 rfl rfl)
theorem dX10_statement_7 : decode cX10_statement 7 = .ok (.getfield 128, 3) := dk_180 0 128 (dk_at dksX10_statement_0 7 rfl rfl)
theorem dX10_statement_10 : decode cX10_statement 10 = .ok (.ifCond .eq 12, 3) := dk_153 0 12 (dk_at dksX10_statement_0 10 rfl rfl)
theorem dX10_statement_13 : decode cX10_statement 13 = .ok (.aload_n 1, 1) := dk_43 (dk_at dksX10_statement_0 13 rfl rfl)
theorem dX10_statement_14 : decode cX10_statement 14 = .ok (.ldc 159, 2) := dk_18 159 (dk_at dksX10_statement_0 14 rfl rfl)
theorem dX10_statement_16 : decode cX10_statement 16 = .ok (.invokevirtual 59, 3) := dk_182 0 59 (dk_at dksX10_statement_0 16 rfl rfl)
theorem dX10_statement_19 : decode cX10_statement 19 = .ok (.ifCond .eq 7, 3) := dk_153 0 7 (dk_at dksX10_statement_0 19 rfl rfl)
theorem dX10_statement_22 : decode cX10_statement 22 = .ok (.iconst 1, 1) := dk_4 (dk_at dksX10_statement_0 22 rfl rfl)
theorem dX10_statement_23 : decode cX10_statement 23 = .ok (.goto 4, 3) := dk_167 0 4 (dk_at dksX10_statement_1 0 rfl rfl)
theorem dX10_statement_26 : decode cX10_statement 26 = .ok (.iconst 0, 1) := dk_3 (dk_at dksX10_statement_1 3 rfl rfl)
theorem dX10_statement_27 : decode cX10_statement 27 = .ok (.iconst 1, 1) := dk_4 (dk_at dksX10_statement_1 4 rfl rfl)
theorem dX10_statement_28 : decode cX10_statement 28 = .ok (.invokevirtual 72, 3) := dk_182 0 72 (dk_at dksX10_statement_1 5 rfl rfl)
theorem dX10_statement_31 : decode cX10_statement 31 = .ok (.aload_n 0, 1) := dk_42 (dk_at dksX10_statement_1 8 rfl rfl)
theorem dX10_statement_32 : decode cX10_statement 32 = .ok (.aload_n 0, 1) := dk_42 (dk_at dksX10_statement_1 9 rfl rfl)
theorem dX10_statement_33 : decode cX10_statement 33 = .ok (.aload_n 1, 1) := dk_43 (dk_at dksX10_statement_1 10 rfl rfl)
theorem dX10_statement_34 : decode cX10_statement 34 = .ok (.invokevirtual 161, 3) := dk_182 0 161 (dk_at dksX10_statement_1 11 rfl rfl)
theorem dX10_statement_37 : decode cX10_statement 37 = .ok (.iconst 4, 1) := dk_7 (dk_at dksX10_statement_1 14 rfl rfl)
theorem dX10_statement_38 : decode cX10_statement 38 = .ok (.invokevirtual 72, 3) := dk_182 0 72 (dk_at dksX10_statement_1 15 rfl rfl)
theorem dX10_statement_41 : decode cX10_statement 41 = .ok (.aload_n 0, 1) := dk_42 (dk_at dksX10_statement_1 18 rfl rfl)
theorem dX10_statement_42 : decode cX10_statement 42 = .ok (.getfield 25, 3) := dk_180 0 25 (dk_at dksX10_statement_1 19 rfl rfl)
theorem dX10_statement_45 : decode cX10_statement 45 = .ok (.istore_n 2, 1) := dk_61 (dk_at dksX10_statement_1 22 rfl rfl)
theorem dX10_statement_46 : decode cX10_statement 46 = .ok (.aload_n 0, 1) := dk_42 (dk_at dksX10_statement_1 23 rfl rfl)
theorem dX10_statement_47 : decode cX10_statement 47 = .ok (.aload_n 0, 1) := dk_42 (dk_at dksX10_statement_2 0 rfl rfl)
theorem dX10_statement_48 : decode cX10_statement 48 = .ok (.getfield 35, 3) := dk_180 0 35 (dk_at dksX10_statement_2 1 rfl rfl)
theorem dX10_statement_51 : decode cX10_statement 51 = .ok (.putfield 25, 3) := dk_181 0 25 (dk_at dksX10_statement_2 4 rfl rfl)
theorem dX10_statement_54 : decode cX10_statement 54 = .ok (.aload_n 1, 1) := dk_43 (dk_at dksX10_statement_2 7 rfl rfl)
theorem dX10_statement_55 : decode cX10_statement 55 = .ok (.astore_n 3, 1) := dk_78 (dk_at dksX10_statement_2 8 rfl rfl)
theorem dX10_statement_56 : decode cX10_statement 56 = .ok (.iconst (-1), 1) := dk_2 (dk_at dksX10_statement_2 9 rfl rfl)
theorem dX10_statement_57 : decode cX10_statement 57 = .ok (.istore 4, 2) := dk_54 4 (dk_at dksX10_statement_2 10 rfl rfl)
theorem dX10_statement_59 : decode cX10_statement 59 = .ok (.aload_n 3, 1) := dk_45 (dk_at dksX10_statement_2 12 rfl rfl)
theorem dX10_statement_60 : decode cX10_statement 60 = .ok (.invokevirtual 145, 3) := dk_182 0 145 (dk_at dksX10_statement_2 13 rfl rfl)
theorem dX10_statement_63 : decode cX10_statement 63 = .ok (.lookupswitch 216 #[(-1073910849, 96), (-982480788, 156), (3089326, 126), (3165387, 141), (3194931, 111), (3327275, 171), (3571837, 203), (3641802, 81), (102976443, 187)], 81) := by decide +kernel
theorem dX10_statement_144 : decode cX10_statement 144 = .ok (.aload_n 3, 1) := dk_45 (dk_at dksX10_statement_4 0 rfl rfl)
theorem dX10_statement_145 : decode cX10_statement 145 = .ok (.ldc 164, 2) := dk_18 164 (dk_at dksX10_statement_4 1 rfl rfl)
theorem dX10_statement_147 : decode cX10_statement 147 = .ok (.invokevirtual 59, 3) := dk_182 0 59 (dk_at dksX10_statement_4 3 rfl rfl)
theorem dX10_statement_150 : decode cX10_statement 150 = .ok (.ifCond .eq 129, 3) := dk_153 0 129 (dk_at dksX10_statement_4 6 rfl rfl)
theorem dX10_statement_153 : decode cX10_statement 153 = .ok (.iconst 0, 1) := dk_3 (dk_at dksX10_statement_4 9 rfl rfl)
theorem dX10_statement_154 : decode cX10_statement 154 = .ok (.istore 4, 2) := dk_54 4 (dk_at dksX10_statement_4 10 rfl rfl)
theorem dX10_statement_156 : decode cX10_statement 156 = .ok (.goto 123, 3) := dk_167 0 123 (dk_at dksX10_statement_4 12 rfl rfl)
theorem dX10_statement_159 : decode cX10_statement 159 = .ok (.aload_n 3, 1) := dk_45 (dk_at dksX10_statement_4 15 rfl rfl)
theorem dX10_statement_160 : decode cX10_statement 160 = .ok (.ldc 148, 2) := dk_18 148 (dk_at dksX10_statement_4 16 rfl rfl)
theorem dX10_statement_162 : decode cX10_statement 162 = .ok (.invokevirtual 59, 3) := dk_182 0 59 (dk_at dksX10_statement_4 18 rfl rfl)
theorem dX10_statement_165 : decode cX10_statement 165 = .ok (.ifCond .eq 114, 3) := dk_153 0 114 (dk_at dksX10_statement_4 21 rfl rfl)
theorem dX10_statement_168 : decode cX10_statement 168 = .ok (.iconst 1, 1) := dk_4 (dk_at dksX10_statement_5 0 rfl rfl)
theorem dX10_statement_169 : decode cX10_statement 169 = .ok (.istore 4, 2) := dk_54 4 (dk_at dksX10_statement_5 1 rfl rfl)
theorem dX10_statement_171 : decode cX10_statement 171 = .ok (.goto 108, 3) := dk_167 0 108 (dk_at dksX10_statement_5 3 rfl rfl)
theorem dX10_statement_174 : decode cX10_statement 174 = .ok (.aload_n 3, 1) := dk_45 (dk_at dksX10_statement_5 6 rfl rfl)
theorem dX10_statement_175 : decode cX10_statement 175 = .ok (.ldc 150, 2) := dk_18 150 (dk_at dksX10_statement_5 7 rfl rfl)
theorem dX10_statement_177 : decode cX10_statement 177 = .ok (.invokevirtual 59, 3) := dk_182 0 59 (dk_at dksX10_statement_5 9 rfl rfl)
theorem dX10_statement_180 : decode cX10_statement 180 = .ok (.ifCond .eq 99, 3) := dk_153 0 99 (dk_at dksX10_statement_5 12 rfl rfl)
theorem dX10_statement_183 : decode cX10_statement 183 = .ok (.iconst 2, 1) := dk_5 (dk_at dksX10_statement_5 15 rfl rfl)
theorem dX10_statement_184 : decode cX10_statement 184 = .ok (.istore 4, 2) := dk_54 4 (dk_at dksX10_statement_5 16 rfl rfl)
theorem dX10_statement_186 : decode cX10_statement 186 = .ok (.goto 93, 3) := dk_167 0 93 (dk_at dksX10_statement_5 18 rfl rfl)
theorem dX10_statement_189 : decode cX10_statement 189 = .ok (.aload_n 3, 1) := dk_45 (dk_at dksX10_statement_5 21 rfl rfl)
theorem dX10_statement_190 : decode cX10_statement 190 = .ok (.ldc 152, 2) := dk_18 152 (dk_at dksX10_statement_5 22 rfl rfl)
theorem dX10_statement_192 : decode cX10_statement 192 = .ok (.invokevirtual 59, 3) := dk_182 0 59 (dk_at dksX10_statement_6 0 rfl rfl)
theorem dX10_statement_195 : decode cX10_statement 195 = .ok (.ifCond .eq 84, 3) := dk_153 0 84 (dk_at dksX10_statement_6 3 rfl rfl)
theorem dX10_statement_198 : decode cX10_statement 198 = .ok (.iconst 3, 1) := dk_6 (dk_at dksX10_statement_6 6 rfl rfl)
theorem dX10_statement_199 : decode cX10_statement 199 = .ok (.istore 4, 2) := dk_54 4 (dk_at dksX10_statement_6 7 rfl rfl)
theorem dX10_statement_201 : decode cX10_statement 201 = .ok (.goto 78, 3) := dk_167 0 78 (dk_at dksX10_statement_6 9 rfl rfl)
theorem dX10_statement_204 : decode cX10_statement 204 = .ok (.aload_n 3, 1) := dk_45 (dk_at dksX10_statement_6 12 rfl rfl)
theorem dX10_statement_205 : decode cX10_statement 205 = .ok (.ldc 166, 2) := dk_18 166 (dk_at dksX10_statement_6 13 rfl rfl)
theorem dX10_statement_207 : decode cX10_statement 207 = .ok (.invokevirtual 59, 3) := dk_182 0 59 (dk_at dksX10_statement_6 15 rfl rfl)
theorem dX10_statement_210 : decode cX10_statement 210 = .ok (.ifCond .eq 69, 3) := dk_153 0 69 (dk_at dksX10_statement_6 18 rfl rfl)
theorem dX10_statement_213 : decode cX10_statement 213 = .ok (.iconst 4, 1) := dk_7 (dk_at dksX10_statement_6 21 rfl rfl)
theorem dX10_statement_214 : decode cX10_statement 214 = .ok (.istore 4, 2) := dk_54 4 (dk_at dksX10_statement_6 22 rfl rfl)
theorem dX10_statement_216 : decode cX10_statement 216 = .ok (.goto 63, 3) := dk_167 0 63 (dk_at dksX10_statement_7 0 rfl rfl)
theorem dX10_statement_219 : decode cX10_statement 219 = .ok (.aload_n 3, 1) := dk_45 (dk_at dksX10_statement_7 3 rfl rfl)
theorem dX10_statement_220 : decode cX10_statement 220 = .ok (.ldc 154, 2) := dk_18 154 (dk_at dksX10_statement_7 4 rfl rfl)
theorem dX10_statement_222 : decode cX10_statement 222 = .ok (.invokevirtual 59, 3) := dk_182 0 59 (dk_at dksX10_statement_7 6 rfl rfl)
theorem dX10_statement_225 : decode cX10_statement 225 = .ok (.ifCond .eq 54, 3) := dk_153 0 54 (dk_at dksX10_statement_7 9 rfl rfl)
theorem dX10_statement_228 : decode cX10_statement 228 = .ok (.iconst 5, 1) := dk_8 (dk_at dksX10_statement_7 12 rfl rfl)
theorem dX10_statement_229 : decode cX10_statement 229 = .ok (.istore 4, 2) := dk_54 4 (dk_at dksX10_statement_7 13 rfl rfl)
theorem dX10_statement_231 : decode cX10_statement 231 = .ok (.goto 48, 3) := dk_167 0 48 (dk_at dksX10_statement_7 15 rfl rfl)
theorem dX10_statement_234 : decode cX10_statement 234 = .ok (.aload_n 3, 1) := dk_45 (dk_at dksX10_statement_7 18 rfl rfl)
theorem dX10_statement_235 : decode cX10_statement 235 = .ok (.ldc 168, 2) := dk_18 168 (dk_at dksX10_statement_7 19 rfl rfl)
theorem dX10_statement_237 : decode cX10_statement 237 = .ok (.invokevirtual 59, 3) := dk_182 0 59 (dk_at dksX10_statement_7 21 rfl rfl)
theorem dX10_statement_240 : decode cX10_statement 240 = .ok (.ifCond .eq 39, 3) := dk_153 0 39 (dk_at dksX10_statement_8 0 rfl rfl)
theorem dX10_statement_243 : decode cX10_statement 243 = .ok (.bipush 6, 2) := dk_16 6 (dk_at dksX10_statement_8 3 rfl rfl)
theorem dX10_statement_245 : decode cX10_statement 245 = .ok (.istore 4, 2) := dk_54 4 (dk_at dksX10_statement_8 5 rfl rfl)
theorem dX10_statement_247 : decode cX10_statement 247 = .ok (.goto 32, 3) := dk_167 0 32 (dk_at dksX10_statement_8 7 rfl rfl)
theorem dX10_statement_250 : decode cX10_statement 250 = .ok (.aload_n 3, 1) := dk_45 (dk_at dksX10_statement_8 10 rfl rfl)
theorem dX10_statement_251 : decode cX10_statement 251 = .ok (.ldc 170, 2) := dk_18 170 (dk_at dksX10_statement_8 11 rfl rfl)
theorem dX10_statement_253 : decode cX10_statement 253 = .ok (.invokevirtual 59, 3) := dk_182 0 59 (dk_at dksX10_statement_8 13 rfl rfl)
theorem dX10_statement_256 : decode cX10_statement 256 = .ok (.ifCond .eq 23, 3) := dk_153 0 23 (dk_at dksX10_statement_8 16 rfl rfl)
theorem dX10_statement_259 : decode cX10_statement 259 = .ok (.bipush 7, 2) := dk_16 7 (dk_at dksX10_statement_8 19 rfl rfl)
theorem dX10_statement_261 : decode cX10_statement 261 = .ok (.istore 4, 2) := dk_54 4 (dk_at dksX10_statement_8 21 rfl rfl)
theorem dX10_statement_263 : decode cX10_statement 263 = .ok (.goto 16, 3) := dk_167 0 16 (dk_at dksX10_statement_9 0 rfl rfl)
theorem dX10_statement_266 : decode cX10_statement 266 = .ok (.aload_n 3, 1) := dk_45 (dk_at dksX10_statement_9 3 rfl rfl)
theorem dX10_statement_267 : decode cX10_statement 267 = .ok (.ldc 159, 2) := dk_18 159 (dk_at dksX10_statement_9 4 rfl rfl)
theorem dX10_statement_269 : decode cX10_statement 269 = .ok (.invokevirtual 59, 3) := dk_182 0 59 (dk_at dksX10_statement_9 6 rfl rfl)
theorem dX10_statement_272 : decode cX10_statement 272 = .ok (.ifCond .eq 7, 3) := dk_153 0 7 (dk_at dksX10_statement_9 9 rfl rfl)
theorem dX10_statement_275 : decode cX10_statement 275 = .ok (.bipush 8, 2) := dk_16 8 (dk_at dksX10_statement_9 12 rfl rfl)
theorem dX10_statement_277 : decode cX10_statement 277 = .ok (.istore 4, 2) := dk_54 4 (dk_at dksX10_statement_9 14 rfl rfl)
theorem dX10_statement_279 : decode cX10_statement 279 = .ok (.iload 4, 2) := dk_21 4 (dk_at dksX10_statement_9 16 rfl rfl)
theorem dX10_statement_281 : decode cX10_statement 281 = .ok (.tableswitch 210 0 8 #[51, 80, 80, 93, 128, 163, 170, 186, 203], 51) := by decide +kernel
theorem dX10_statement_332 : decode cX10_statement 332 = .ok (.aload_n 0, 1) := dk_42 (dk_at dksX10_statement_11 0 rfl rfl)
theorem dX10_statement_333 : decode cX10_statement 333 = .ok (.iconst (-1), 1) := dk_2 (dk_at dksX10_statement_11 1 rfl rfl)
theorem dX10_statement_334 : decode cX10_statement 334 = .ok (.invokevirtual 112, 3) := dk_182 0 112 (dk_at dksX10_statement_11 2 rfl rfl)
theorem dX10_statement_337 : decode cX10_statement 337 = .ok (.istore 5, 2) := dk_54 5 (dk_at dksX10_statement_11 5 rfl rfl)
theorem dX10_statement_339 : decode cX10_statement 339 = .ok (.aload_n 0, 1) := dk_42 (dk_at dksX10_statement_11 7 rfl rfl)
theorem dX10_statement_340 : decode cX10_statement 340 = .ok (.getfield 79, 3) := dk_180 0 79 (dk_at dksX10_statement_11 8 rfl rfl)
theorem dX10_statement_343 : decode cX10_statement 343 = .ok (.getfield 94, 3) := dk_180 0 94 (dk_at dksX10_statement_11 11 rfl rfl)
theorem dX10_statement_346 : decode cX10_statement 346 = .ok (.iload 5, 2) := dk_21 5 (dk_at dksX10_statement_11 14 rfl rfl)
theorem dX10_statement_348 : decode cX10_statement 348 = .ok (.new 172, 3) := dk_187 0 172 (dk_at dksX10_statement_11 16 rfl rfl)
theorem dX10_statement_351 : decode cX10_statement 351 = .ok (.dup, 1) := dk_89 (dk_at dksX10_statement_11 19 rfl rfl)
theorem dX10_statement_352 : decode cX10_statement 352 = .ok (.iload 5, 2) := dk_21 5 (dk_at dksX10_statement_11 20 rfl rfl)
theorem dX10_statement_354 : decode cX10_statement 354 = .ok (.invokespecial 174, 3) := dk_183 0 174 (dk_at dksX10_statement_12 0 rfl rfl)
theorem dX10_statement_357 : decode cX10_statement 357 = .ok (.aastore, 1) := dk_83 (dk_at dksX10_statement_12 3 rfl rfl)
theorem dX10_statement_358 : decode cX10_statement 358 = .ok (.goto 143, 3) := dk_167 0 143 (dk_at dksX10_statement_12 4 rfl rfl)
theorem dX10_statement_361 : decode cX10_statement 361 = .ok (.aload_n 0, 1) := dk_42 (dk_at dksX10_statement_12 7 rfl rfl)
theorem dX10_statement_362 : decode cX10_statement 362 = .ok (.aload_n 1, 1) := dk_43 (dk_at dksX10_statement_12 8 rfl rfl)
theorem dX10_statement_363 : decode cX10_statement 363 = .ok (.ldc 150, 2) := dk_18 150 (dk_at dksX10_statement_12 9 rfl rfl)
theorem dX10_statement_365 : decode cX10_statement 365 = .ok (.invokevirtual 59, 3) := dk_182 0 59 (dk_at dksX10_statement_12 11 rfl rfl)
theorem dX10_statement_368 : decode cX10_statement 368 = .ok (.invokevirtual 177, 3) := dk_182 0 177 (dk_at dksX10_statement_12 14 rfl rfl)
theorem dX10_statement_371 : decode cX10_statement 371 = .ok (.goto 130, 3) := dk_167 0 130 (dk_at dksX10_statement_12 17 rfl rfl)
theorem dX10_statement_374 : decode cX10_statement 374 = .ok (.aload_n 0, 1) := dk_42 (dk_at dksX10_statement_12 20 rfl rfl)
theorem dX10_statement_375 : decode cX10_statement 375 = .ok (.iconst (-1), 1) := dk_2 (dk_at dksX10_statement_12 21 rfl rfl)
theorem dX10_statement_376 : decode cX10_statement 376 = .ok (.invokevirtual 112, 3) := dk_182 0 112 (dk_at dksX10_statement_13 0 rfl rfl)
theorem dX10_statement_379 : decode cX10_statement 379 = .ok (.istore 5, 2) := dk_54 5 (dk_at dksX10_statement_13 3 rfl rfl)
theorem dX10_statement_381 : decode cX10_statement 381 = .ok (.aload_n 0, 1) := dk_42 (dk_at dksX10_statement_13 5 rfl rfl)
theorem dX10_statement_382 : decode cX10_statement 382 = .ok (.getfield 79, 3) := dk_180 0 79 (dk_at dksX10_statement_13 6 rfl rfl)
theorem dX10_statement_385 : decode cX10_statement 385 = .ok (.getfield 94, 3) := dk_180 0 94 (dk_at dksX10_statement_13 9 rfl rfl)
theorem dX10_statement_388 : decode cX10_statement 388 = .ok (.iload 5, 2) := dk_21 5 (dk_at dksX10_statement_13 12 rfl rfl)
theorem dX10_statement_390 : decode cX10_statement 390 = .ok (.new 180, 3) := dk_187 0 180 (dk_at dksX10_statement_13 14 rfl rfl)
theorem dX10_statement_393 : decode cX10_statement 393 = .ok (.dup, 1) := dk_89 (dk_at dksX10_statement_13 17 rfl rfl)
theorem dX10_statement_394 : decode cX10_statement 394 = .ok (.iload 5, 2) := dk_21 5 (dk_at dksX10_statement_13 18 rfl rfl)
theorem dX10_statement_396 : decode cX10_statement 396 = .ok (.aload_n 0, 1) := dk_42 (dk_at dksX10_statement_13 20 rfl rfl)
theorem dX10_statement_397 : decode cX10_statement 397 = .ok (.iconst 1, 1) := dk_4 (dk_at dksX10_statement_13 21 rfl rfl)
theorem dX10_statement_398 : decode cX10_statement 398 = .ok (.iconst 2, 1) := dk_5 (dk_at dksX10_statement_13 22 rfl rfl)
theorem dX10_statement_399 : decode cX10_statement 399 = .ok (.invokevirtual 88, 3) := dk_182 0 88 (dk_at dksX10_statement_14 0 rfl rfl)
theorem dX10_statement_402 : decode cX10_statement 402 = .ok (.invokespecial 182, 3) := dk_183 0 182 (dk_at dksX10_statement_14 3 rfl rfl)
theorem dX10_statement_405 : decode cX10_statement 405 = .ok (.aastore, 1) := dk_83 (dk_at dksX10_statement_14 6 rfl rfl)
theorem dX10_statement_406 : decode cX10_statement 406 = .ok (.goto 95, 3) := dk_167 0 95 (dk_at dksX10_statement_14 7 rfl rfl)
theorem dX10_statement_409 : decode cX10_statement 409 = .ok (.aload_n 0, 1) := dk_42 (dk_at dksX10_statement_14 10 rfl rfl)
theorem dX10_statement_410 : decode cX10_statement 410 = .ok (.iconst (-1), 1) := dk_2 (dk_at dksX10_statement_14 11 rfl rfl)
theorem dX10_statement_411 : decode cX10_statement 411 = .ok (.invokevirtual 112, 3) := dk_182 0 112 (dk_at dksX10_statement_14 12 rfl rfl)
theorem dX10_statement_414 : decode cX10_statement 414 = .ok (.istore 5, 2) := dk_54 5 (dk_at dksX10_statement_14 15 rfl rfl)
theorem dX10_statement_416 : decode cX10_statement 416 = .ok (.aload_n 0, 1) := dk_42 (dk_at dksX10_statement_14 17 rfl rfl)
theorem dX10_statement_417 : decode cX10_statement 417 = .ok (.getfield 79, 3) := dk_180 0 79 (dk_at dksX10_statement_14 18 rfl rfl)
theorem dX10_statement_420 : decode cX10_statement 420 = .ok (.getfield 94, 3) := dk_180 0 94 (dk_at dksX10_statement_14 21 rfl rfl)
theorem dX10_statement_423 : decode cX10_statement 423 = .ok (.iload 5, 2) := dk_21 5 (dk_at dksX10_statement_15 0 rfl rfl)
theorem dX10_statement_425 : decode cX10_statement 425 = .ok (.new 183, 3) := dk_187 0 183 (dk_at dksX10_statement_15 2 rfl rfl)
theorem dX10_statement_428 : decode cX10_statement 428 = .ok (.dup, 1) := dk_89 (dk_at dksX10_statement_15 5 rfl rfl)
theorem dX10_statement_429 : decode cX10_statement 429 = .ok (.iload 5, 2) := dk_21 5 (dk_at dksX10_statement_15 6 rfl rfl)
theorem dX10_statement_431 : decode cX10_statement 431 = .ok (.aload_n 0, 1) := dk_42 (dk_at dksX10_statement_15 8 rfl rfl)
theorem dX10_statement_432 : decode cX10_statement 432 = .ok (.iconst 0, 1) := dk_3 (dk_at dksX10_statement_15 9 rfl rfl)
theorem dX10_statement_433 : decode cX10_statement 433 = .ok (.iconst 3, 1) := dk_6 (dk_at dksX10_statement_15 10 rfl rfl)
theorem dX10_statement_434 : decode cX10_statement 434 = .ok (.invokevirtual 88, 3) := dk_182 0 88 (dk_at dksX10_statement_15 11 rfl rfl)
theorem dX10_statement_437 : decode cX10_statement 437 = .ok (.invokespecial 185, 3) := dk_183 0 185 (dk_at dksX10_statement_15 14 rfl rfl)
theorem dX10_statement_440 : decode cX10_statement 440 = .ok (.aastore, 1) := dk_83 (dk_at dksX10_statement_15 17 rfl rfl)
theorem dX10_statement_441 : decode cX10_statement 441 = .ok (.goto 60, 3) := dk_167 0 60 (dk_at dksX10_statement_15 18 rfl rfl)
theorem dX10_statement_444 : decode cX10_statement 444 = .ok (.aload_n 0, 1) := dk_42 (dk_at dksX10_statement_15 21 rfl rfl)
theorem dX10_statement_445 : decode cX10_statement 445 = .ok (.invokevirtual 186, 3) := dk_182 0 186 (dk_at dksX10_statement_16 0 rfl rfl)
theorem dX10_statement_448 : decode cX10_statement 448 = .ok (.goto 53, 3) := dk_167 0 53 (dk_at dksX10_statement_16 3 rfl rfl)
theorem dX10_statement_451 : decode cX10_statement 451 = .ok (.aload_n 0, 1) := dk_42 (dk_at dksX10_statement_16 6 rfl rfl)
theorem dX10_statement_452 : decode cX10_statement 452 = .ok (.getfield 79, 3) := dk_180 0 79 (dk_at dksX10_statement_16 7 rfl rfl)
theorem dX10_statement_455 : decode cX10_statement 455 = .ok (.aload_n 0, 1) := dk_42 (dk_at dksX10_statement_16 10 rfl rfl)
theorem dX10_statement_456 : decode cX10_statement 456 = .ok (.iconst 0, 1) := dk_3 (dk_at dksX10_statement_16 11 rfl rfl)
theorem dX10_statement_457 : decode cX10_statement 457 = .ok (.iconst 3, 1) := dk_6 (dk_at dksX10_statement_16 12 rfl rfl)
theorem dX10_statement_458 : decode cX10_statement 458 = .ok (.invokevirtual 88, 3) := dk_182 0 88 (dk_at dksX10_statement_16 13 rfl rfl)
theorem dX10_statement_461 : decode cX10_statement 461 = .ok (.putfield 188, 3) := dk_181 0 188 (dk_at dksX10_statement_16 16 rfl rfl)
theorem dX10_statement_464 : decode cX10_statement 464 = .ok (.goto 37, 3) := dk_167 0 37 (dk_at dksX10_statement_16 19 rfl rfl)
theorem dX10_statement_467 : decode cX10_statement 467 = .ok (.aload_n 0, 1) := dk_42 (dk_at dksX10_statement_16 22 rfl rfl)
theorem dX10_statement_468 : decode cX10_statement 468 = .ok (.getfield 79, 3) := dk_180 0 79 (dk_at dksX10_statement_17 0 rfl rfl)
theorem dX10_statement_471 : decode cX10_statement 471 = .ok (.aload_n 0, 1) := dk_42 (dk_at dksX10_statement_17 3 rfl rfl)
theorem dX10_statement_472 : decode cX10_statement 472 = .ok (.iconst 1, 1) := dk_4 (dk_at dksX10_statement_17 4 rfl rfl)
theorem dX10_statement_473 : decode cX10_statement 473 = .ok (.bipush 99, 2) := dk_16 99 (dk_at dksX10_statement_17 5 rfl rfl)
theorem dX10_statement_475 : decode cX10_statement 475 = .ok (.invokevirtual 88, 3) := dk_182 0 88 (dk_at dksX10_statement_17 7 rfl rfl)
theorem dX10_statement_478 : decode cX10_statement 478 = .ok (.putfield 190, 3) := dk_181 0 190 (dk_at dksX10_statement_17 10 rfl rfl)
theorem dX10_statement_481 : decode cX10_statement 481 = .ok (.goto 20, 3) := dk_167 0 20 (dk_at dksX10_statement_17 13 rfl rfl)
theorem dX10_statement_484 : decode cX10_statement 484 = .ok (.aload_n 0, 1) := dk_42 (dk_at dksX10_statement_17 16 rfl rfl)
theorem dX10_statement_485 : decode cX10_statement 485 = .ok (.invokevirtual 192, 3) := dk_182 0 192 (dk_at dksX10_statement_17 17 rfl rfl)
theorem dX10_statement_488 : decode cX10_statement 488 = .ok (.goto 13, 3) := dk_167 0 13 (dk_at dksX10_statement_17 20 rfl rfl)
theorem dX10_statement_491 : decode cX10_statement 491 = .ok (.new 23, 3) := dk_187 0 23 (dk_at dksX10_statement_18 0 rfl rfl)
theorem dX10_statement_494 : decode cX10_statement 494 = .ok (.dup, 1) := dk_89 (dk_at dksX10_statement_18 3 rfl rfl)
theorem dX10_statement_495 : decode cX10_statement 495 = .ok (.iconst 1, 1) := dk_4 (dk_at dksX10_statement_18 4 rfl rfl)
theorem dX10_statement_496 : decode cX10_statement 496 = .ok (.iload_n 2, 1) := dk_28 (dk_at dksX10_statement_18 5 rfl rfl)
theorem dX10_statement_497 : decode cX10_statement 497 = .ok (.invokespecial 28, 3) := dk_183 0 28 (dk_at dksX10_statement_18 6 rfl rfl)
theorem dX10_statement_500 : decode cX10_statement 500 = .ok (.athrow, 1) := dk_191 (dk_at dksX10_statement_18 9 rfl rfl)
theorem dX10_statement_501 : decode cX10_statement 501 = .ok (.aload_n 0, 1) := dk_42 (dk_at dksX10_statement_18 10 rfl rfl)
theorem dX10_statement_502 : decode cX10_statement 502 = .ok (.invokevirtual 138, 3) := dk_182 0 138 (dk_at dksX10_statement_18 11 rfl rfl)
theorem dX10_statement_505 : decode cX10_statement 505 = .ok (.return_, 1) := dk_177 (dk_at dksX10_statement_18 14 rfl rfl)
abbrev cX10_hasRoom : ByteArray := prog_9_method_15_code
def yX10_hasRoom : MethodName := ⟨RX10, "hasRoom", "(Ljava/lang/String;)Z"⟩
def dkwX10_hasRoom_9 : List UInt8 := [167, 0, 4, 4, 172]
abbrev dktX10_hasRoom_9 : List UInt8 := dkwX10_hasRoom_9 ++ []
def dkwX10_hasRoom_8 : List UInt8 := [3, 167, 0, 26, 42, 180, 0, 79, 16, 6, 182, 0, 156, 16, 8, 162, 0, 7, 4, 167, 0, 8, 3]
abbrev dktX10_hasRoom_8 : List UInt8 := dkwX10_hasRoom_8 ++ dktX10_hasRoom_9
def dkwX10_hasRoom_7 : List UInt8 := [167, 0, 51, 3, 167, 0, 47, 42, 180, 0, 79, 7, 182, 0, 156, 16, 8, 162, 0, 7, 4, 167, 0, 30]
abbrev dktX10_hasRoom_7 : List UInt8 := dkwX10_hasRoom_7 ++ dktX10_hasRoom_8
def dkwX10_hasRoom_6 : List UInt8 := [42, 180, 0, 79, 5, 182, 0, 156, 42, 180, 0, 79, 6, 182, 0, 156, 96, 16, 12, 162, 0, 7, 4]
abbrev dktX10_hasRoom_6 : List UInt8 := dkwX10_hasRoom_6 ++ dktX10_hasRoom_7
def dkwX10_hasRoom_5 : List UInt8 := [170, 0, 0, 0, 0, 103, 0, 0, 0, 0, 0, 0, 0, 3, 0, 0, 0, 30, 0, 0, 0, 30, 0, 0, 0, 60, 0, 0, 0, 81]
abbrev dktX10_hasRoom_5 : List UInt8 := dkwX10_hasRoom_5 ++ dktX10_hasRoom_6
def dkwX10_hasRoom_4 : List UInt8 := [153, 0, 5, 6, 62, 29]
abbrev dktX10_hasRoom_4 : List UInt8 := dkwX10_hasRoom_4 ++ dktX10_hasRoom_5
def dkwX10_hasRoom_3 : List UInt8 := [62, 167, 0, 28, 44, 18, 152, 182, 0, 59, 153, 0, 19, 5, 62, 167, 0, 14, 44, 18, 154, 182, 0, 59]
abbrev dktX10_hasRoom_3 : List UInt8 := dkwX10_hasRoom_3 ++ dktX10_hasRoom_4
def dkwX10_hasRoom_2 : List UInt8 := [44, 18, 148, 182, 0, 59, 153, 0, 47, 3, 62, 167, 0, 42, 44, 18, 150, 182, 0, 59, 153, 0, 33, 4]
abbrev dktX10_hasRoom_2 : List UInt8 := dkwX10_hasRoom_2 ++ dktX10_hasRoom_3
def dkwX10_hasRoom_1 : List UInt8 := [171, 0, 0, 0, 0, 0, 0, 97, 0, 0, 0, 4, 191, 253, 107, 191, 0, 0, 0, 44, 197, 112, 136, 108, 0, 0, 0, 86, 0, 47, 35, 174, 0, 0, 0, 72, 0, 48, 192, 51, 0, 0, 0, 58]
abbrev dktX10_hasRoom_1 : List UInt8 := dkwX10_hasRoom_1 ++ dktX10_hasRoom_2
def dkwX10_hasRoom_0 : List UInt8 := [43, 77, 2, 62, 44, 182, 0, 145]
abbrev dktX10_hasRoom_0 : List UInt8 := dkwX10_hasRoom_0 ++ dktX10_hasRoom_1
theorem dksX10_hasRoom_0 : cX10_hasRoom.data.toList.drop 0 = dktX10_hasRoom_0 := by decide +kernel
theorem dksX10_hasRoom_1 : cX10_hasRoom.data.toList.drop 8 = dktX10_hasRoom_1 := dk_seg dksX10_hasRoom_0 8 rfl rfl
theorem dksX10_hasRoom_2 : cX10_hasRoom.data.toList.drop 52 = dktX10_hasRoom_2 := dk_seg dksX10_hasRoom_1 44 rfl rfl
theorem dksX10_hasRoom_3 : cX10_hasRoom.data.toList.drop 76 = dktX10_hasRoom_3 := dk_seg dksX10_hasRoom_2 24 rfl rfl
theorem dksX10_hasRoom_4 : cX10_hasRoom.data.toList.drop 100 = dktX10_hasRoom_4 := dk_seg dksX10_hasRoom_3 24 rfl rfl
theorem dksX10_hasRoom_5 : cX10_hasRoom.data.toList.drop 106 = dktX10_hasRoom_5 := dk_seg dksX10_hasRoom_4 6 rfl rfl
theorem dksX10_hasRoom_6 : cX10_hasRoom.data.toList.drop 136 = dktX10_hasRoom_6 := dk_seg dksX10_hasRoom_5 30 rfl rfl
theorem dksX10_hasRoom_7 : cX10_hasRoom.data.toList.drop 159 = dktX10_hasRoom_7 := dk_seg dksX10_hasRoom_6 23 rfl rfl
theorem dksX10_hasRoom_8 : cX10_hasRoom.data.toList.drop 183 = dktX10_hasRoom_8 := dk_seg dksX10_hasRoom_7 24 rfl rfl
theorem dksX10_hasRoom_9 : cX10_hasRoom.data.toList.drop 206 = dktX10_hasRoom_9 := dk_seg dksX10_hasRoom_8 23 rfl rfl
theorem dX10_hasRoom_0 : decode cX10_hasRoom 0 = .ok (.aload_n 1, 1) := dk_43 (dk_at dksX10_hasRoom_0 0 rfl rfl)
theorem dX10_hasRoom_1 : decode cX10_hasRoom 1 = .ok (.astore_n 2, 1) := dk_77 (dk_at dksX10_hasRoom_0 1 rfl rfl)
theorem dX10_hasRoom_2 : decode cX10_hasRoom 2 = .ok (.iconst (-1), 1) := dk_2 (dk_at dksX10_hasRoom_0 2 rfl rfl)
theorem dX10_hasRoom_3 : decode cX10_hasRoom 3 = .ok (.istore_n 3, 1) := dk_62 (dk_at dksX10_hasRoom_0 3 rfl rfl)
theorem dX10_hasRoom_4 : decode cX10_hasRoom 4 = .ok (.aload_n 2, 1) := dk_44 (dk_at dksX10_hasRoom_0 4 rfl rfl)
theorem dX10_hasRoom_5 : decode cX10_hasRoom 5 = .ok (.invokevirtual 145, 3) := dk_182 0 145 (dk_at dksX10_hasRoom_0 5 rfl rfl)
theorem dX10_hasRoom_8 : decode cX10_hasRoom 8 = .ok (.lookupswitch 97 #[(-1073910849, 44), (-982480788, 86), (3089326, 72), (3194931, 58)], 44) := by decide +kernel
theorem dX10_hasRoom_52 : decode cX10_hasRoom 52 = .ok (.aload_n 2, 1) := dk_44 (dk_at dksX10_hasRoom_2 0 rfl rfl)
theorem dX10_hasRoom_53 : decode cX10_hasRoom 53 = .ok (.ldc 148, 2) := dk_18 148 (dk_at dksX10_hasRoom_2 1 rfl rfl)
theorem dX10_hasRoom_55 : decode cX10_hasRoom 55 = .ok (.invokevirtual 59, 3) := dk_182 0 59 (dk_at dksX10_hasRoom_2 3 rfl rfl)
theorem dX10_hasRoom_58 : decode cX10_hasRoom 58 = .ok (.ifCond .eq 47, 3) := dk_153 0 47 (dk_at dksX10_hasRoom_2 6 rfl rfl)
theorem dX10_hasRoom_61 : decode cX10_hasRoom 61 = .ok (.iconst 0, 1) := dk_3 (dk_at dksX10_hasRoom_2 9 rfl rfl)
theorem dX10_hasRoom_62 : decode cX10_hasRoom 62 = .ok (.istore_n 3, 1) := dk_62 (dk_at dksX10_hasRoom_2 10 rfl rfl)
theorem dX10_hasRoom_63 : decode cX10_hasRoom 63 = .ok (.goto 42, 3) := dk_167 0 42 (dk_at dksX10_hasRoom_2 11 rfl rfl)
theorem dX10_hasRoom_66 : decode cX10_hasRoom 66 = .ok (.aload_n 2, 1) := dk_44 (dk_at dksX10_hasRoom_2 14 rfl rfl)
theorem dX10_hasRoom_67 : decode cX10_hasRoom 67 = .ok (.ldc 150, 2) := dk_18 150 (dk_at dksX10_hasRoom_2 15 rfl rfl)
theorem dX10_hasRoom_69 : decode cX10_hasRoom 69 = .ok (.invokevirtual 59, 3) := dk_182 0 59 (dk_at dksX10_hasRoom_2 17 rfl rfl)
theorem dX10_hasRoom_72 : decode cX10_hasRoom 72 = .ok (.ifCond .eq 33, 3) := dk_153 0 33 (dk_at dksX10_hasRoom_2 20 rfl rfl)
theorem dX10_hasRoom_75 : decode cX10_hasRoom 75 = .ok (.iconst 1, 1) := dk_4 (dk_at dksX10_hasRoom_2 23 rfl rfl)
theorem dX10_hasRoom_76 : decode cX10_hasRoom 76 = .ok (.istore_n 3, 1) := dk_62 (dk_at dksX10_hasRoom_3 0 rfl rfl)
theorem dX10_hasRoom_77 : decode cX10_hasRoom 77 = .ok (.goto 28, 3) := dk_167 0 28 (dk_at dksX10_hasRoom_3 1 rfl rfl)
theorem dX10_hasRoom_80 : decode cX10_hasRoom 80 = .ok (.aload_n 2, 1) := dk_44 (dk_at dksX10_hasRoom_3 4 rfl rfl)
theorem dX10_hasRoom_81 : decode cX10_hasRoom 81 = .ok (.ldc 152, 2) := dk_18 152 (dk_at dksX10_hasRoom_3 5 rfl rfl)
theorem dX10_hasRoom_83 : decode cX10_hasRoom 83 = .ok (.invokevirtual 59, 3) := dk_182 0 59 (dk_at dksX10_hasRoom_3 7 rfl rfl)
theorem dX10_hasRoom_86 : decode cX10_hasRoom 86 = .ok (.ifCond .eq 19, 3) := dk_153 0 19 (dk_at dksX10_hasRoom_3 10 rfl rfl)
theorem dX10_hasRoom_89 : decode cX10_hasRoom 89 = .ok (.iconst 2, 1) := dk_5 (dk_at dksX10_hasRoom_3 13 rfl rfl)
theorem dX10_hasRoom_90 : decode cX10_hasRoom 90 = .ok (.istore_n 3, 1) := dk_62 (dk_at dksX10_hasRoom_3 14 rfl rfl)
theorem dX10_hasRoom_91 : decode cX10_hasRoom 91 = .ok (.goto 14, 3) := dk_167 0 14 (dk_at dksX10_hasRoom_3 15 rfl rfl)
theorem dX10_hasRoom_94 : decode cX10_hasRoom 94 = .ok (.aload_n 2, 1) := dk_44 (dk_at dksX10_hasRoom_3 18 rfl rfl)
theorem dX10_hasRoom_95 : decode cX10_hasRoom 95 = .ok (.ldc 154, 2) := dk_18 154 (dk_at dksX10_hasRoom_3 19 rfl rfl)
theorem dX10_hasRoom_97 : decode cX10_hasRoom 97 = .ok (.invokevirtual 59, 3) := dk_182 0 59 (dk_at dksX10_hasRoom_3 21 rfl rfl)
theorem dX10_hasRoom_100 : decode cX10_hasRoom 100 = .ok (.ifCond .eq 5, 3) := dk_153 0 5 (dk_at dksX10_hasRoom_4 0 rfl rfl)
theorem dX10_hasRoom_103 : decode cX10_hasRoom 103 = .ok (.iconst 3, 1) := dk_6 (dk_at dksX10_hasRoom_4 3 rfl rfl)
theorem dX10_hasRoom_104 : decode cX10_hasRoom 104 = .ok (.istore_n 3, 1) := dk_62 (dk_at dksX10_hasRoom_4 4 rfl rfl)
theorem dX10_hasRoom_105 : decode cX10_hasRoom 105 = .ok (.iload_n 3, 1) := dk_29 (dk_at dksX10_hasRoom_4 5 rfl rfl)
theorem dX10_hasRoom_106 : decode cX10_hasRoom 106 = .ok (.tableswitch 103 0 3 #[30, 30, 60, 81], 30) := by decide +kernel
theorem dX10_hasRoom_136 : decode cX10_hasRoom 136 = .ok (.aload_n 0, 1) := dk_42 (dk_at dksX10_hasRoom_6 0 rfl rfl)
theorem dX10_hasRoom_137 : decode cX10_hasRoom 137 = .ok (.getfield 79, 3) := dk_180 0 79 (dk_at dksX10_hasRoom_6 1 rfl rfl)
theorem dX10_hasRoom_140 : decode cX10_hasRoom 140 = .ok (.iconst 2, 1) := dk_5 (dk_at dksX10_hasRoom_6 4 rfl rfl)
theorem dX10_hasRoom_141 : decode cX10_hasRoom 141 = .ok (.invokevirtual 156, 3) := dk_182 0 156 (dk_at dksX10_hasRoom_6 5 rfl rfl)
theorem dX10_hasRoom_144 : decode cX10_hasRoom 144 = .ok (.aload_n 0, 1) := dk_42 (dk_at dksX10_hasRoom_6 8 rfl rfl)
theorem dX10_hasRoom_145 : decode cX10_hasRoom 145 = .ok (.getfield 79, 3) := dk_180 0 79 (dk_at dksX10_hasRoom_6 9 rfl rfl)
theorem dX10_hasRoom_148 : decode cX10_hasRoom 148 = .ok (.iconst 3, 1) := dk_6 (dk_at dksX10_hasRoom_6 12 rfl rfl)
theorem dX10_hasRoom_149 : decode cX10_hasRoom 149 = .ok (.invokevirtual 156, 3) := dk_182 0 156 (dk_at dksX10_hasRoom_6 13 rfl rfl)
theorem dX10_hasRoom_152 : decode cX10_hasRoom 152 = .ok (.iadd, 1) := dk_96 (dk_at dksX10_hasRoom_6 16 rfl rfl)
theorem dX10_hasRoom_153 : decode cX10_hasRoom 153 = .ok (.bipush 12, 2) := dk_16 12 (dk_at dksX10_hasRoom_6 17 rfl rfl)
theorem dX10_hasRoom_155 : decode cX10_hasRoom 155 = .ok (.if_icmp .ge 7, 3) := dk_162 0 7 (dk_at dksX10_hasRoom_6 19 rfl rfl)
theorem dX10_hasRoom_158 : decode cX10_hasRoom 158 = .ok (.iconst 1, 1) := dk_4 (dk_at dksX10_hasRoom_6 22 rfl rfl)
theorem dX10_hasRoom_159 : decode cX10_hasRoom 159 = .ok (.goto 51, 3) := dk_167 0 51 (dk_at dksX10_hasRoom_7 0 rfl rfl)
theorem dX10_hasRoom_162 : decode cX10_hasRoom 162 = .ok (.iconst 0, 1) := dk_3 (dk_at dksX10_hasRoom_7 3 rfl rfl)
theorem dX10_hasRoom_163 : decode cX10_hasRoom 163 = .ok (.goto 47, 3) := dk_167 0 47 (dk_at dksX10_hasRoom_7 4 rfl rfl)
theorem dX10_hasRoom_166 : decode cX10_hasRoom 166 = .ok (.aload_n 0, 1) := dk_42 (dk_at dksX10_hasRoom_7 7 rfl rfl)
theorem dX10_hasRoom_167 : decode cX10_hasRoom 167 = .ok (.getfield 79, 3) := dk_180 0 79 (dk_at dksX10_hasRoom_7 8 rfl rfl)
theorem dX10_hasRoom_170 : decode cX10_hasRoom 170 = .ok (.iconst 4, 1) := dk_7 (dk_at dksX10_hasRoom_7 11 rfl rfl)
theorem dX10_hasRoom_171 : decode cX10_hasRoom 171 = .ok (.invokevirtual 156, 3) := dk_182 0 156 (dk_at dksX10_hasRoom_7 12 rfl rfl)
theorem dX10_hasRoom_174 : decode cX10_hasRoom 174 = .ok (.bipush 8, 2) := dk_16 8 (dk_at dksX10_hasRoom_7 15 rfl rfl)
theorem dX10_hasRoom_176 : decode cX10_hasRoom 176 = .ok (.if_icmp .ge 7, 3) := dk_162 0 7 (dk_at dksX10_hasRoom_7 17 rfl rfl)
theorem dX10_hasRoom_179 : decode cX10_hasRoom 179 = .ok (.iconst 1, 1) := dk_4 (dk_at dksX10_hasRoom_7 20 rfl rfl)
theorem dX10_hasRoom_180 : decode cX10_hasRoom 180 = .ok (.goto 30, 3) := dk_167 0 30 (dk_at dksX10_hasRoom_7 21 rfl rfl)
theorem dX10_hasRoom_183 : decode cX10_hasRoom 183 = .ok (.iconst 0, 1) := dk_3 (dk_at dksX10_hasRoom_8 0 rfl rfl)
theorem dX10_hasRoom_184 : decode cX10_hasRoom 184 = .ok (.goto 26, 3) := dk_167 0 26 (dk_at dksX10_hasRoom_8 1 rfl rfl)
theorem dX10_hasRoom_187 : decode cX10_hasRoom 187 = .ok (.aload_n 0, 1) := dk_42 (dk_at dksX10_hasRoom_8 4 rfl rfl)
theorem dX10_hasRoom_188 : decode cX10_hasRoom 188 = .ok (.getfield 79, 3) := dk_180 0 79 (dk_at dksX10_hasRoom_8 5 rfl rfl)
theorem dX10_hasRoom_191 : decode cX10_hasRoom 191 = .ok (.bipush 6, 2) := dk_16 6 (dk_at dksX10_hasRoom_8 8 rfl rfl)
theorem dX10_hasRoom_193 : decode cX10_hasRoom 193 = .ok (.invokevirtual 156, 3) := dk_182 0 156 (dk_at dksX10_hasRoom_8 10 rfl rfl)
theorem dX10_hasRoom_196 : decode cX10_hasRoom 196 = .ok (.bipush 8, 2) := dk_16 8 (dk_at dksX10_hasRoom_8 13 rfl rfl)
theorem dX10_hasRoom_198 : decode cX10_hasRoom 198 = .ok (.if_icmp .ge 7, 3) := dk_162 0 7 (dk_at dksX10_hasRoom_8 15 rfl rfl)
theorem dX10_hasRoom_201 : decode cX10_hasRoom 201 = .ok (.iconst 1, 1) := dk_4 (dk_at dksX10_hasRoom_8 18 rfl rfl)
theorem dX10_hasRoom_202 : decode cX10_hasRoom 202 = .ok (.goto 8, 3) := dk_167 0 8 (dk_at dksX10_hasRoom_8 19 rfl rfl)
theorem dX10_hasRoom_205 : decode cX10_hasRoom 205 = .ok (.iconst 0, 1) := dk_3 (dk_at dksX10_hasRoom_8 22 rfl rfl)
theorem dX10_hasRoom_206 : decode cX10_hasRoom 206 = .ok (.goto 4, 3) := dk_167 0 4 (dk_at dksX10_hasRoom_9 0 rfl rfl)
theorem dX10_hasRoom_209 : decode cX10_hasRoom 209 = .ok (.iconst 1, 1) := dk_4 (dk_at dksX10_hasRoom_9 3 rfl rfl)
theorem dX10_hasRoom_210 : decode cX10_hasRoom 210 = .ok (.ireturn, 1) := dk_172 (dk_at dksX10_hasRoom_9 4 rfl rfl)
abbrev cX10_free : ByteArray := prog_9_method_10_code
def yX10_free : MethodName := ⟨RX10, "free", "(I)I"⟩
def dkwX10_free_3 : List UInt8 := [180, 0, 35, 181, 0, 25, 29, 172]
abbrev dktX10_free_3 : List UInt8 := dkwX10_free_3 ++ []
def dkwX10_free_2 : List UInt8 := [180, 0, 94, 29, 50, 182, 0, 98, 154, 0, 7, 4, 167, 0, 4, 3, 6, 182, 0, 72, 42, 42]
abbrev dktX10_free_2 : List UInt8 := dkwX10_free_2 ++ dktX10_free_3
def dkwX10_free_1 : List UInt8 := [180, 0, 91, 4, 100, 182, 0, 76, 104, 28, 96, 62, 42, 29, 27, 159, 0, 22, 42, 180, 0, 79]
abbrev dktX10_free_1 : List UInt8 := dkwX10_free_1 ++ dktX10_free_2
def dkwX10_free_0 : List UInt8 := [42, 3, 42, 180, 0, 79, 180, 0, 83, 4, 100, 182, 0, 88, 61, 16, 10, 42, 3, 42, 180, 0, 79]
abbrev dktX10_free_0 : List UInt8 := dkwX10_free_0 ++ dktX10_free_1
theorem dksX10_free_0 : cX10_free.data.toList.drop 0 = dktX10_free_0 := by decide +kernel
theorem dksX10_free_1 : cX10_free.data.toList.drop 23 = dktX10_free_1 := dk_seg dksX10_free_0 23 rfl rfl
theorem dksX10_free_2 : cX10_free.data.toList.drop 45 = dktX10_free_2 := dk_seg dksX10_free_1 22 rfl rfl
theorem dksX10_free_3 : cX10_free.data.toList.drop 67 = dktX10_free_3 := dk_seg dksX10_free_2 22 rfl rfl
theorem dX10_free_0 : decode cX10_free 0 = .ok (.aload_n 0, 1) := dk_42 (dk_at dksX10_free_0 0 rfl rfl)
theorem dX10_free_1 : decode cX10_free 1 = .ok (.iconst 0, 1) := dk_3 (dk_at dksX10_free_0 1 rfl rfl)
theorem dX10_free_2 : decode cX10_free 2 = .ok (.aload_n 0, 1) := dk_42 (dk_at dksX10_free_0 2 rfl rfl)
theorem dX10_free_3 : decode cX10_free 3 = .ok (.getfield 79, 3) := dk_180 0 79 (dk_at dksX10_free_0 3 rfl rfl)
theorem dX10_free_6 : decode cX10_free 6 = .ok (.getfield 83, 3) := dk_180 0 83 (dk_at dksX10_free_0 6 rfl rfl)
theorem dX10_free_9 : decode cX10_free 9 = .ok (.iconst 1, 1) := dk_4 (dk_at dksX10_free_0 9 rfl rfl)
theorem dX10_free_10 : decode cX10_free 10 = .ok (.isub, 1) := dk_100 (dk_at dksX10_free_0 10 rfl rfl)
theorem dX10_free_11 : decode cX10_free 11 = .ok (.invokevirtual 88, 3) := dk_182 0 88 (dk_at dksX10_free_0 11 rfl rfl)
theorem dX10_free_14 : decode cX10_free 14 = .ok (.istore_n 2, 1) := dk_61 (dk_at dksX10_free_0 14 rfl rfl)
theorem dX10_free_15 : decode cX10_free 15 = .ok (.bipush 10, 2) := dk_16 10 (dk_at dksX10_free_0 15 rfl rfl)
theorem dX10_free_17 : decode cX10_free 17 = .ok (.aload_n 0, 1) := dk_42 (dk_at dksX10_free_0 17 rfl rfl)
theorem dX10_free_18 : decode cX10_free 18 = .ok (.iconst 0, 1) := dk_3 (dk_at dksX10_free_0 18 rfl rfl)
theorem dX10_free_19 : decode cX10_free 19 = .ok (.aload_n 0, 1) := dk_42 (dk_at dksX10_free_0 19 rfl rfl)
theorem dX10_free_20 : decode cX10_free 20 = .ok (.getfield 79, 3) := dk_180 0 79 (dk_at dksX10_free_0 20 rfl rfl)
theorem dX10_free_23 : decode cX10_free 23 = .ok (.getfield 91, 3) := dk_180 0 91 (dk_at dksX10_free_1 0 rfl rfl)
theorem dX10_free_26 : decode cX10_free 26 = .ok (.iconst 1, 1) := dk_4 (dk_at dksX10_free_1 3 rfl rfl)
theorem dX10_free_27 : decode cX10_free 27 = .ok (.isub, 1) := dk_100 (dk_at dksX10_free_1 4 rfl rfl)
theorem dX10_free_28 : decode cX10_free 28 = .ok (.invokevirtual 76, 3) := dk_182 0 76 (dk_at dksX10_free_1 5 rfl rfl)
theorem dX10_free_31 : decode cX10_free 31 = .ok (.imul, 1) := dk_104 (dk_at dksX10_free_1 8 rfl rfl)
theorem dX10_free_32 : decode cX10_free 32 = .ok (.iload_n 2, 1) := dk_28 (dk_at dksX10_free_1 9 rfl rfl)
theorem dX10_free_33 : decode cX10_free 33 = .ok (.iadd, 1) := dk_96 (dk_at dksX10_free_1 10 rfl rfl)
theorem dX10_free_34 : decode cX10_free 34 = .ok (.istore_n 3, 1) := dk_62 (dk_at dksX10_free_1 11 rfl rfl)
theorem dX10_free_35 : decode cX10_free 35 = .ok (.aload_n 0, 1) := dk_42 (dk_at dksX10_free_1 12 rfl rfl)
theorem dX10_free_36 : decode cX10_free 36 = .ok (.iload_n 3, 1) := dk_29 (dk_at dksX10_free_1 13 rfl rfl)
theorem dX10_free_37 : decode cX10_free 37 = .ok (.iload_n 1, 1) := dk_27 (dk_at dksX10_free_1 14 rfl rfl)
theorem dX10_free_38 : decode cX10_free 38 = .ok (.if_icmp .eq 22, 3) := dk_159 0 22 (dk_at dksX10_free_1 15 rfl rfl)
theorem dX10_free_41 : decode cX10_free 41 = .ok (.aload_n 0, 1) := dk_42 (dk_at dksX10_free_1 18 rfl rfl)
theorem dX10_free_42 : decode cX10_free 42 = .ok (.getfield 79, 3) := dk_180 0 79 (dk_at dksX10_free_1 19 rfl rfl)
theorem dX10_free_45 : decode cX10_free 45 = .ok (.getfield 94, 3) := dk_180 0 94 (dk_at dksX10_free_2 0 rfl rfl)
theorem dX10_free_48 : decode cX10_free 48 = .ok (.iload_n 3, 1) := dk_29 (dk_at dksX10_free_2 3 rfl rfl)
theorem dX10_free_49 : decode cX10_free 49 = .ok (.aaload, 1) := dk_50 (dk_at dksX10_free_2 4 rfl rfl)
theorem dX10_free_50 : decode cX10_free 50 = .ok (.invokevirtual 98, 3) := dk_182 0 98 (dk_at dksX10_free_2 5 rfl rfl)
theorem dX10_free_53 : decode cX10_free 53 = .ok (.ifCond .ne 7, 3) := dk_154 0 7 (dk_at dksX10_free_2 8 rfl rfl)
theorem dX10_free_56 : decode cX10_free 56 = .ok (.iconst 1, 1) := dk_4 (dk_at dksX10_free_2 11 rfl rfl)
theorem dX10_free_57 : decode cX10_free 57 = .ok (.goto 4, 3) := dk_167 0 4 (dk_at dksX10_free_2 12 rfl rfl)
theorem dX10_free_60 : decode cX10_free 60 = .ok (.iconst 0, 1) := dk_3 (dk_at dksX10_free_2 15 rfl rfl)
theorem dX10_free_61 : decode cX10_free 61 = .ok (.iconst 3, 1) := dk_6 (dk_at dksX10_free_2 16 rfl rfl)
theorem dX10_free_62 : decode cX10_free 62 = .ok (.invokevirtual 72, 3) := dk_182 0 72 (dk_at dksX10_free_2 17 rfl rfl)
theorem dX10_free_65 : decode cX10_free 65 = .ok (.aload_n 0, 1) := dk_42 (dk_at dksX10_free_2 20 rfl rfl)
theorem dX10_free_66 : decode cX10_free 66 = .ok (.aload_n 0, 1) := dk_42 (dk_at dksX10_free_2 21 rfl rfl)
theorem dX10_free_67 : decode cX10_free 67 = .ok (.getfield 35, 3) := dk_180 0 35 (dk_at dksX10_free_3 0 rfl rfl)
theorem dX10_free_70 : decode cX10_free 70 = .ok (.putfield 25, 3) := dk_181 0 25 (dk_at dksX10_free_3 3 rfl rfl)
theorem dX10_free_73 : decode cX10_free 73 = .ok (.iload_n 3, 1) := dk_29 (dk_at dksX10_free_3 6 rfl rfl)
theorem dX10_free_74 : decode cX10_free 74 = .ok (.ireturn, 1) := dk_172 (dk_at dksX10_free_3 7 rfl rfl)
abbrev cX10_mirror : ByteArray := prog_9_method_12_code
def yX10_mirror : MethodName := ⟨RX10, "mirror", "(Z)V"⟩
def dkwX10_mirror_2 : List UInt8 := [21, 4, 183, 0, 122, 83, 177]
abbrev dktX10_mirror_2 : List UInt8 := dkwX10_mirror_2 ++ []
def dkwX10_mirror_1 : List UInt8 := [182, 0, 88, 167, 0, 4, 3, 54, 4, 42, 180, 0, 79, 180, 0, 94, 28, 187, 0, 120, 89, 28, 27, 29]
abbrev dktX10_mirror_1 : List UInt8 := dkwX10_mirror_1 ++ dktX10_mirror_2
def dkwX10_mirror_0 : List UInt8 := [42, 2, 182, 0, 112, 61, 42, 182, 0, 115, 62, 42, 18, 118, 182, 0, 106, 153, 0, 12, 42, 4, 5]
abbrev dktX10_mirror_0 : List UInt8 := dkwX10_mirror_0 ++ dktX10_mirror_1
theorem dksX10_mirror_0 : cX10_mirror.data.toList.drop 0 = dktX10_mirror_0 := by decide +kernel
theorem dksX10_mirror_1 : cX10_mirror.data.toList.drop 23 = dktX10_mirror_1 := dk_seg dksX10_mirror_0 23 rfl rfl
theorem dksX10_mirror_2 : cX10_mirror.data.toList.drop 47 = dktX10_mirror_2 := dk_seg dksX10_mirror_1 24 rfl rfl
theorem dX10_mirror_0 : decode cX10_mirror 0 = .ok (.aload_n 0, 1) := dk_42 (dk_at dksX10_mirror_0 0 rfl rfl)
theorem dX10_mirror_1 : decode cX10_mirror 1 = .ok (.iconst (-1), 1) := dk_2 (dk_at dksX10_mirror_0 1 rfl rfl)
theorem dX10_mirror_2 : decode cX10_mirror 2 = .ok (.invokevirtual 112, 3) := dk_182 0 112 (dk_at dksX10_mirror_0 2 rfl rfl)
theorem dX10_mirror_5 : decode cX10_mirror 5 = .ok (.istore_n 2, 1) := dk_61 (dk_at dksX10_mirror_0 5 rfl rfl)
theorem dX10_mirror_6 : decode cX10_mirror 6 = .ok (.aload_n 0, 1) := dk_42 (dk_at dksX10_mirror_0 6 rfl rfl)
theorem dX10_mirror_7 : decode cX10_mirror 7 = .ok (.invokevirtual 115, 3) := dk_182 0 115 (dk_at dksX10_mirror_0 7 rfl rfl)
theorem dX10_mirror_10 : decode cX10_mirror 10 = .ok (.istore_n 3, 1) := dk_62 (dk_at dksX10_mirror_0 10 rfl rfl)
theorem dX10_mirror_11 : decode cX10_mirror 11 = .ok (.aload_n 0, 1) := dk_42 (dk_at dksX10_mirror_0 11 rfl rfl)
theorem dX10_mirror_12 : decode cX10_mirror 12 = .ok (.ldc 118, 2) := dk_18 118 (dk_at dksX10_mirror_0 12 rfl rfl)
theorem dX10_mirror_14 : decode cX10_mirror 14 = .ok (.invokevirtual 106, 3) := dk_182 0 106 (dk_at dksX10_mirror_0 14 rfl rfl)
theorem dX10_mirror_17 : decode cX10_mirror 17 = .ok (.ifCond .eq 12, 3) := dk_153 0 12 (dk_at dksX10_mirror_0 17 rfl rfl)
theorem dX10_mirror_20 : decode cX10_mirror 20 = .ok (.aload_n 0, 1) := dk_42 (dk_at dksX10_mirror_0 20 rfl rfl)
theorem dX10_mirror_21 : decode cX10_mirror 21 = .ok (.iconst 1, 1) := dk_4 (dk_at dksX10_mirror_0 21 rfl rfl)
theorem dX10_mirror_22 : decode cX10_mirror 22 = .ok (.iconst 2, 1) := dk_5 (dk_at dksX10_mirror_0 22 rfl rfl)
theorem dX10_mirror_23 : decode cX10_mirror 23 = .ok (.invokevirtual 88, 3) := dk_182 0 88 (dk_at dksX10_mirror_1 0 rfl rfl)
theorem dX10_mirror_26 : decode cX10_mirror 26 = .ok (.goto 4, 3) := dk_167 0 4 (dk_at dksX10_mirror_1 3 rfl rfl)
theorem dX10_mirror_29 : decode cX10_mirror 29 = .ok (.iconst 0, 1) := dk_3 (dk_at dksX10_mirror_1 6 rfl rfl)
theorem dX10_mirror_30 : decode cX10_mirror 30 = .ok (.istore 4, 2) := dk_54 4 (dk_at dksX10_mirror_1 7 rfl rfl)
theorem dX10_mirror_32 : decode cX10_mirror 32 = .ok (.aload_n 0, 1) := dk_42 (dk_at dksX10_mirror_1 9 rfl rfl)
theorem dX10_mirror_33 : decode cX10_mirror 33 = .ok (.getfield 79, 3) := dk_180 0 79 (dk_at dksX10_mirror_1 10 rfl rfl)
theorem dX10_mirror_36 : decode cX10_mirror 36 = .ok (.getfield 94, 3) := dk_180 0 94 (dk_at dksX10_mirror_1 13 rfl rfl)
theorem dX10_mirror_39 : decode cX10_mirror 39 = .ok (.iload_n 2, 1) := dk_28 (dk_at dksX10_mirror_1 16 rfl rfl)
theorem dX10_mirror_40 : decode cX10_mirror 40 = .ok (.new 120, 3) := dk_187 0 120 (dk_at dksX10_mirror_1 17 rfl rfl)
theorem dX10_mirror_43 : decode cX10_mirror 43 = .ok (.dup, 1) := dk_89 (dk_at dksX10_mirror_1 20 rfl rfl)
theorem dX10_mirror_44 : decode cX10_mirror 44 = .ok (.iload_n 2, 1) := dk_28 (dk_at dksX10_mirror_1 21 rfl rfl)
theorem dX10_mirror_45 : decode cX10_mirror 45 = .ok (.iload_n 1, 1) := dk_27 (dk_at dksX10_mirror_1 22 rfl rfl)
theorem dX10_mirror_46 : decode cX10_mirror 46 = .ok (.iload_n 3, 1) := dk_29 (dk_at dksX10_mirror_1 23 rfl rfl)
theorem dX10_mirror_47 : decode cX10_mirror 47 = .ok (.iload 4, 2) := dk_21 4 (dk_at dksX10_mirror_2 0 rfl rfl)
theorem dX10_mirror_49 : decode cX10_mirror 49 = .ok (.invokespecial 122, 3) := dk_183 0 122 (dk_at dksX10_mirror_2 2 rfl rfl)
theorem dX10_mirror_52 : decode cX10_mirror 52 = .ok (.aastore, 1) := dk_83 (dk_at dksX10_mirror_2 5 rfl rfl)
theorem dX10_mirror_53 : decode cX10_mirror 53 = .ok (.return_, 1) := dk_177 (dk_at dksX10_mirror_2 6 rfl rfl)
abbrev cX10_slant : ByteArray := prog_9_method_11_code
def yX10_slant : MethodName := ⟨RX10, "slant", "()I"⟩
def dkwX10_slant_0 : List UInt8 := [42, 18, 104, 182, 0, 106, 153, 0, 5, 3, 172, 42, 42, 18, 110, 182, 0, 106, 4, 182, 0, 72, 4, 172]
abbrev dktX10_slant_0 : List UInt8 := dkwX10_slant_0 ++ []
theorem dksX10_slant_0 : cX10_slant.data.toList.drop 0 = dktX10_slant_0 := by decide +kernel
theorem dX10_slant_0 : decode cX10_slant 0 = .ok (.aload_n 0, 1) := dk_42 (dk_at dksX10_slant_0 0 rfl rfl)
theorem dX10_slant_1 : decode cX10_slant 1 = .ok (.ldc 104, 2) := dk_18 104 (dk_at dksX10_slant_0 1 rfl rfl)
theorem dX10_slant_3 : decode cX10_slant 3 = .ok (.invokevirtual 106, 3) := dk_182 0 106 (dk_at dksX10_slant_0 3 rfl rfl)
theorem dX10_slant_6 : decode cX10_slant 6 = .ok (.ifCond .eq 5, 3) := dk_153 0 5 (dk_at dksX10_slant_0 6 rfl rfl)
theorem dX10_slant_9 : decode cX10_slant 9 = .ok (.iconst 0, 1) := dk_3 (dk_at dksX10_slant_0 9 rfl rfl)
theorem dX10_slant_10 : decode cX10_slant 10 = .ok (.ireturn, 1) := dk_172 (dk_at dksX10_slant_0 10 rfl rfl)
theorem dX10_slant_11 : decode cX10_slant 11 = .ok (.aload_n 0, 1) := dk_42 (dk_at dksX10_slant_0 11 rfl rfl)
theorem dX10_slant_12 : decode cX10_slant 12 = .ok (.aload_n 0, 1) := dk_42 (dk_at dksX10_slant_0 12 rfl rfl)
theorem dX10_slant_13 : decode cX10_slant 13 = .ok (.ldc 110, 2) := dk_18 110 (dk_at dksX10_slant_0 13 rfl rfl)
theorem dX10_slant_15 : decode cX10_slant 15 = .ok (.invokevirtual 106, 3) := dk_182 0 106 (dk_at dksX10_slant_0 15 rfl rfl)
theorem dX10_slant_18 : decode cX10_slant 18 = .ok (.iconst 1, 1) := dk_4 (dk_at dksX10_slant_0 18 rfl rfl)
theorem dX10_slant_19 : decode cX10_slant 19 = .ok (.invokevirtual 72, 3) := dk_182 0 72 (dk_at dksX10_slant_0 19 rfl rfl)
theorem dX10_slant_22 : decode cX10_slant 22 = .ok (.iconst 1, 1) := dk_4 (dk_at dksX10_slant_0 22 rfl rfl)
theorem dX10_slant_23 : decode cX10_slant 23 = .ok (.ireturn, 1) := dk_172 (dk_at dksX10_slant_0 23 rfl rfl)
abbrev cX10_portal : ByteArray := prog_9_method_13_code
def yX10_portal : MethodName := ⟨RX10, "portal", "()V"⟩
def dkwX10_portal_2 : List UInt8 := [177]
abbrev dktX10_portal_2 : List UInt8 := dkwX10_portal_2 ++ []
def dkwX10_portal_1 : List UInt8 := [27, 28, 183, 0, 127, 83, 42, 180, 0, 79, 180, 0, 94, 28, 187, 0, 125, 89, 28, 27, 183, 0, 127, 83]
abbrev dktX10_portal_1 : List UInt8 := dkwX10_portal_1 ++ dktX10_portal_2
def dkwX10_portal_0 : List UInt8 := [42, 2, 182, 0, 112, 60, 42, 27, 182, 0, 112, 61, 42, 180, 0, 79, 180, 0, 94, 27, 187, 0, 125, 89]
abbrev dktX10_portal_0 : List UInt8 := dkwX10_portal_0 ++ dktX10_portal_1
theorem dksX10_portal_0 : cX10_portal.data.toList.drop 0 = dktX10_portal_0 := by decide +kernel
theorem dksX10_portal_1 : cX10_portal.data.toList.drop 24 = dktX10_portal_1 := dk_seg dksX10_portal_0 24 rfl rfl
theorem dksX10_portal_2 : cX10_portal.data.toList.drop 48 = dktX10_portal_2 := dk_seg dksX10_portal_1 24 rfl rfl
theorem dX10_portal_0 : decode cX10_portal 0 = .ok (.aload_n 0, 1) := dk_42 (dk_at dksX10_portal_0 0 rfl rfl)
theorem dX10_portal_1 : decode cX10_portal 1 = .ok (.iconst (-1), 1) := dk_2 (dk_at dksX10_portal_0 1 rfl rfl)
theorem dX10_portal_2 : decode cX10_portal 2 = .ok (.invokevirtual 112, 3) := dk_182 0 112 (dk_at dksX10_portal_0 2 rfl rfl)
theorem dX10_portal_5 : decode cX10_portal 5 = .ok (.istore_n 1, 1) := dk_60 (dk_at dksX10_portal_0 5 rfl rfl)
theorem dX10_portal_6 : decode cX10_portal 6 = .ok (.aload_n 0, 1) := dk_42 (dk_at dksX10_portal_0 6 rfl rfl)
theorem dX10_portal_7 : decode cX10_portal 7 = .ok (.iload_n 1, 1) := dk_27 (dk_at dksX10_portal_0 7 rfl rfl)
theorem dX10_portal_8 : decode cX10_portal 8 = .ok (.invokevirtual 112, 3) := dk_182 0 112 (dk_at dksX10_portal_0 8 rfl rfl)
theorem dX10_portal_11 : decode cX10_portal 11 = .ok (.istore_n 2, 1) := dk_61 (dk_at dksX10_portal_0 11 rfl rfl)
theorem dX10_portal_12 : decode cX10_portal 12 = .ok (.aload_n 0, 1) := dk_42 (dk_at dksX10_portal_0 12 rfl rfl)
theorem dX10_portal_13 : decode cX10_portal 13 = .ok (.getfield 79, 3) := dk_180 0 79 (dk_at dksX10_portal_0 13 rfl rfl)
theorem dX10_portal_16 : decode cX10_portal 16 = .ok (.getfield 94, 3) := dk_180 0 94 (dk_at dksX10_portal_0 16 rfl rfl)
theorem dX10_portal_19 : decode cX10_portal 19 = .ok (.iload_n 1, 1) := dk_27 (dk_at dksX10_portal_0 19 rfl rfl)
theorem dX10_portal_20 : decode cX10_portal 20 = .ok (.new 125, 3) := dk_187 0 125 (dk_at dksX10_portal_0 20 rfl rfl)
theorem dX10_portal_23 : decode cX10_portal 23 = .ok (.dup, 1) := dk_89 (dk_at dksX10_portal_0 23 rfl rfl)
theorem dX10_portal_24 : decode cX10_portal 24 = .ok (.iload_n 1, 1) := dk_27 (dk_at dksX10_portal_1 0 rfl rfl)
theorem dX10_portal_25 : decode cX10_portal 25 = .ok (.iload_n 2, 1) := dk_28 (dk_at dksX10_portal_1 1 rfl rfl)
theorem dX10_portal_26 : decode cX10_portal 26 = .ok (.invokespecial 127, 3) := dk_183 0 127 (dk_at dksX10_portal_1 2 rfl rfl)
theorem dX10_portal_29 : decode cX10_portal 29 = .ok (.aastore, 1) := dk_83 (dk_at dksX10_portal_1 5 rfl rfl)
theorem dX10_portal_30 : decode cX10_portal 30 = .ok (.aload_n 0, 1) := dk_42 (dk_at dksX10_portal_1 6 rfl rfl)
theorem dX10_portal_31 : decode cX10_portal 31 = .ok (.getfield 79, 3) := dk_180 0 79 (dk_at dksX10_portal_1 7 rfl rfl)
theorem dX10_portal_34 : decode cX10_portal 34 = .ok (.getfield 94, 3) := dk_180 0 94 (dk_at dksX10_portal_1 10 rfl rfl)
theorem dX10_portal_37 : decode cX10_portal 37 = .ok (.iload_n 2, 1) := dk_28 (dk_at dksX10_portal_1 13 rfl rfl)
theorem dX10_portal_38 : decode cX10_portal 38 = .ok (.new 125, 3) := dk_187 0 125 (dk_at dksX10_portal_1 14 rfl rfl)
theorem dX10_portal_41 : decode cX10_portal 41 = .ok (.dup, 1) := dk_89 (dk_at dksX10_portal_1 17 rfl rfl)
theorem dX10_portal_42 : decode cX10_portal 42 = .ok (.iload_n 2, 1) := dk_28 (dk_at dksX10_portal_1 18 rfl rfl)
theorem dX10_portal_43 : decode cX10_portal 43 = .ok (.iload_n 1, 1) := dk_27 (dk_at dksX10_portal_1 19 rfl rfl)
theorem dX10_portal_44 : decode cX10_portal 44 = .ok (.invokespecial 127, 3) := dk_183 0 127 (dk_at dksX10_portal_1 20 rfl rfl)
theorem dX10_portal_47 : decode cX10_portal 47 = .ok (.aastore, 1) := dk_83 (dk_at dksX10_portal_1 23 rfl rfl)
theorem dX10_portal_48 : decode cX10_portal 48 = .ok (.return_, 1) := dk_177 (dk_at dksX10_portal_2 0 rfl rfl)
abbrev cX10_turn : ByteArray := prog_9_method_14_code
def yX10_turn : MethodName := ⟨RX10, "turn", "()V"⟩
def dkwX10_turn_4 : List UInt8 := [181, 0, 25, 42, 180, 0, 79, 42, 180, 0, 79, 180, 0, 94, 28, 50, 192, 0, 120, 182, 0, 141, 87, 177]
abbrev dktX10_turn_4 : List UInt8 := dkwX10_turn_4 ++ []
def dkwX10_turn_3 : List UInt8 := [3, 8, 182, 0, 72, 42, 42, 180, 0, 35, 181, 0, 25, 42, 182, 0, 138, 42, 89, 180, 0, 25, 4, 100]
abbrev dktX10_turn_3 : List UInt8 := dkwX10_turn_3 ++ dktX10_turn_4
def dkwX10_turn_2 : List UInt8 := [100, 182, 0, 76, 104, 27, 96, 61, 42, 42, 180, 0, 79, 28, 182, 0, 135, 154, 0, 7, 4, 167, 0, 4]
abbrev dktX10_turn_2 : List UInt8 := dkwX10_turn_2 ++ dktX10_turn_3
def dkwX10_turn_1 : List UInt8 := [180, 0, 79, 180, 0, 83, 4, 100, 182, 0, 88, 60, 16, 10, 42, 3, 42, 180, 0, 79, 180, 0, 91, 4]
abbrev dktX10_turn_1 : List UInt8 := dkwX10_turn_1 ++ dktX10_turn_2
def dkwX10_turn_0 : List UInt8 := [42, 180, 0, 128, 154, 0, 10, 42, 180, 0, 79, 182, 0, 132, 42, 4, 181, 0, 128, 42, 3, 42]
abbrev dktX10_turn_0 : List UInt8 := dkwX10_turn_0 ++ dktX10_turn_1
theorem dksX10_turn_0 : cX10_turn.data.toList.drop 0 = dktX10_turn_0 := by decide +kernel
theorem dksX10_turn_1 : cX10_turn.data.toList.drop 22 = dktX10_turn_1 := dk_seg dksX10_turn_0 22 rfl rfl
theorem dksX10_turn_2 : cX10_turn.data.toList.drop 46 = dktX10_turn_2 := dk_seg dksX10_turn_1 24 rfl rfl
theorem dksX10_turn_3 : cX10_turn.data.toList.drop 70 = dktX10_turn_3 := dk_seg dksX10_turn_2 24 rfl rfl
theorem dksX10_turn_4 : cX10_turn.data.toList.drop 94 = dktX10_turn_4 := dk_seg dksX10_turn_3 24 rfl rfl
theorem dX10_turn_0 : decode cX10_turn 0 = .ok (.aload_n 0, 1) := dk_42 (dk_at dksX10_turn_0 0 rfl rfl)
theorem dX10_turn_1 : decode cX10_turn 1 = .ok (.getfield 128, 3) := dk_180 0 128 (dk_at dksX10_turn_0 1 rfl rfl)
theorem dX10_turn_4 : decode cX10_turn 4 = .ok (.ifCond .ne 10, 3) := dk_154 0 10 (dk_at dksX10_turn_0 4 rfl rfl)
theorem dX10_turn_7 : decode cX10_turn 7 = .ok (.aload_n 0, 1) := dk_42 (dk_at dksX10_turn_0 7 rfl rfl)
theorem dX10_turn_8 : decode cX10_turn 8 = .ok (.getfield 79, 3) := dk_180 0 79 (dk_at dksX10_turn_0 8 rfl rfl)
theorem dX10_turn_11 : decode cX10_turn 11 = .ok (.invokevirtual 132, 3) := dk_182 0 132 (dk_at dksX10_turn_0 11 rfl rfl)
theorem dX10_turn_14 : decode cX10_turn 14 = .ok (.aload_n 0, 1) := dk_42 (dk_at dksX10_turn_0 14 rfl rfl)
theorem dX10_turn_15 : decode cX10_turn 15 = .ok (.iconst 1, 1) := dk_4 (dk_at dksX10_turn_0 15 rfl rfl)
theorem dX10_turn_16 : decode cX10_turn 16 = .ok (.putfield 128, 3) := dk_181 0 128 (dk_at dksX10_turn_0 16 rfl rfl)
theorem dX10_turn_19 : decode cX10_turn 19 = .ok (.aload_n 0, 1) := dk_42 (dk_at dksX10_turn_0 19 rfl rfl)
theorem dX10_turn_20 : decode cX10_turn 20 = .ok (.iconst 0, 1) := dk_3 (dk_at dksX10_turn_0 20 rfl rfl)
theorem dX10_turn_21 : decode cX10_turn 21 = .ok (.aload_n 0, 1) := dk_42 (dk_at dksX10_turn_0 21 rfl rfl)
theorem dX10_turn_22 : decode cX10_turn 22 = .ok (.getfield 79, 3) := dk_180 0 79 (dk_at dksX10_turn_1 0 rfl rfl)
theorem dX10_turn_25 : decode cX10_turn 25 = .ok (.getfield 83, 3) := dk_180 0 83 (dk_at dksX10_turn_1 3 rfl rfl)
theorem dX10_turn_28 : decode cX10_turn 28 = .ok (.iconst 1, 1) := dk_4 (dk_at dksX10_turn_1 6 rfl rfl)
theorem dX10_turn_29 : decode cX10_turn 29 = .ok (.isub, 1) := dk_100 (dk_at dksX10_turn_1 7 rfl rfl)
theorem dX10_turn_30 : decode cX10_turn 30 = .ok (.invokevirtual 88, 3) := dk_182 0 88 (dk_at dksX10_turn_1 8 rfl rfl)
theorem dX10_turn_33 : decode cX10_turn 33 = .ok (.istore_n 1, 1) := dk_60 (dk_at dksX10_turn_1 11 rfl rfl)
theorem dX10_turn_34 : decode cX10_turn 34 = .ok (.bipush 10, 2) := dk_16 10 (dk_at dksX10_turn_1 12 rfl rfl)
theorem dX10_turn_36 : decode cX10_turn 36 = .ok (.aload_n 0, 1) := dk_42 (dk_at dksX10_turn_1 14 rfl rfl)
theorem dX10_turn_37 : decode cX10_turn 37 = .ok (.iconst 0, 1) := dk_3 (dk_at dksX10_turn_1 15 rfl rfl)
theorem dX10_turn_38 : decode cX10_turn 38 = .ok (.aload_n 0, 1) := dk_42 (dk_at dksX10_turn_1 16 rfl rfl)
theorem dX10_turn_39 : decode cX10_turn 39 = .ok (.getfield 79, 3) := dk_180 0 79 (dk_at dksX10_turn_1 17 rfl rfl)
theorem dX10_turn_42 : decode cX10_turn 42 = .ok (.getfield 91, 3) := dk_180 0 91 (dk_at dksX10_turn_1 20 rfl rfl)
theorem dX10_turn_45 : decode cX10_turn 45 = .ok (.iconst 1, 1) := dk_4 (dk_at dksX10_turn_1 23 rfl rfl)
theorem dX10_turn_46 : decode cX10_turn 46 = .ok (.isub, 1) := dk_100 (dk_at dksX10_turn_2 0 rfl rfl)
theorem dX10_turn_47 : decode cX10_turn 47 = .ok (.invokevirtual 76, 3) := dk_182 0 76 (dk_at dksX10_turn_2 1 rfl rfl)
theorem dX10_turn_50 : decode cX10_turn 50 = .ok (.imul, 1) := dk_104 (dk_at dksX10_turn_2 4 rfl rfl)
theorem dX10_turn_51 : decode cX10_turn 51 = .ok (.iload_n 1, 1) := dk_27 (dk_at dksX10_turn_2 5 rfl rfl)
theorem dX10_turn_52 : decode cX10_turn 52 = .ok (.iadd, 1) := dk_96 (dk_at dksX10_turn_2 6 rfl rfl)
theorem dX10_turn_53 : decode cX10_turn 53 = .ok (.istore_n 2, 1) := dk_61 (dk_at dksX10_turn_2 7 rfl rfl)
theorem dX10_turn_54 : decode cX10_turn 54 = .ok (.aload_n 0, 1) := dk_42 (dk_at dksX10_turn_2 8 rfl rfl)
theorem dX10_turn_55 : decode cX10_turn 55 = .ok (.aload_n 0, 1) := dk_42 (dk_at dksX10_turn_2 9 rfl rfl)
theorem dX10_turn_56 : decode cX10_turn 56 = .ok (.getfield 79, 3) := dk_180 0 79 (dk_at dksX10_turn_2 10 rfl rfl)
theorem dX10_turn_59 : decode cX10_turn 59 = .ok (.iload_n 2, 1) := dk_28 (dk_at dksX10_turn_2 13 rfl rfl)
theorem dX10_turn_60 : decode cX10_turn 60 = .ok (.invokevirtual 135, 3) := dk_182 0 135 (dk_at dksX10_turn_2 14 rfl rfl)
theorem dX10_turn_63 : decode cX10_turn 63 = .ok (.ifCond .ne 7, 3) := dk_154 0 7 (dk_at dksX10_turn_2 17 rfl rfl)
theorem dX10_turn_66 : decode cX10_turn 66 = .ok (.iconst 1, 1) := dk_4 (dk_at dksX10_turn_2 20 rfl rfl)
theorem dX10_turn_67 : decode cX10_turn 67 = .ok (.goto 4, 3) := dk_167 0 4 (dk_at dksX10_turn_2 21 rfl rfl)
theorem dX10_turn_70 : decode cX10_turn 70 = .ok (.iconst 0, 1) := dk_3 (dk_at dksX10_turn_3 0 rfl rfl)
theorem dX10_turn_71 : decode cX10_turn 71 = .ok (.iconst 5, 1) := dk_8 (dk_at dksX10_turn_3 1 rfl rfl)
theorem dX10_turn_72 : decode cX10_turn 72 = .ok (.invokevirtual 72, 3) := dk_182 0 72 (dk_at dksX10_turn_3 2 rfl rfl)
theorem dX10_turn_75 : decode cX10_turn 75 = .ok (.aload_n 0, 1) := dk_42 (dk_at dksX10_turn_3 5 rfl rfl)
theorem dX10_turn_76 : decode cX10_turn 76 = .ok (.aload_n 0, 1) := dk_42 (dk_at dksX10_turn_3 6 rfl rfl)
theorem dX10_turn_77 : decode cX10_turn 77 = .ok (.getfield 35, 3) := dk_180 0 35 (dk_at dksX10_turn_3 7 rfl rfl)
theorem dX10_turn_80 : decode cX10_turn 80 = .ok (.putfield 25, 3) := dk_181 0 25 (dk_at dksX10_turn_3 10 rfl rfl)
theorem dX10_turn_83 : decode cX10_turn 83 = .ok (.aload_n 0, 1) := dk_42 (dk_at dksX10_turn_3 13 rfl rfl)
theorem dX10_turn_84 : decode cX10_turn 84 = .ok (.invokevirtual 138, 3) := dk_182 0 138 (dk_at dksX10_turn_3 14 rfl rfl)
theorem dX10_turn_87 : decode cX10_turn 87 = .ok (.aload_n 0, 1) := dk_42 (dk_at dksX10_turn_3 17 rfl rfl)
theorem dX10_turn_88 : decode cX10_turn 88 = .ok (.dup, 1) := dk_89 (dk_at dksX10_turn_3 18 rfl rfl)
theorem dX10_turn_89 : decode cX10_turn 89 = .ok (.getfield 25, 3) := dk_180 0 25 (dk_at dksX10_turn_3 19 rfl rfl)
theorem dX10_turn_92 : decode cX10_turn 92 = .ok (.iconst 1, 1) := dk_4 (dk_at dksX10_turn_3 22 rfl rfl)
theorem dX10_turn_93 : decode cX10_turn 93 = .ok (.isub, 1) := dk_100 (dk_at dksX10_turn_3 23 rfl rfl)
theorem dX10_turn_94 : decode cX10_turn 94 = .ok (.putfield 25, 3) := dk_181 0 25 (dk_at dksX10_turn_4 0 rfl rfl)
theorem dX10_turn_97 : decode cX10_turn 97 = .ok (.aload_n 0, 1) := dk_42 (dk_at dksX10_turn_4 3 rfl rfl)
theorem dX10_turn_98 : decode cX10_turn 98 = .ok (.getfield 79, 3) := dk_180 0 79 (dk_at dksX10_turn_4 4 rfl rfl)
theorem dX10_turn_101 : decode cX10_turn 101 = .ok (.aload_n 0, 1) := dk_42 (dk_at dksX10_turn_4 7 rfl rfl)
theorem dX10_turn_102 : decode cX10_turn 102 = .ok (.getfield 79, 3) := dk_180 0 79 (dk_at dksX10_turn_4 8 rfl rfl)
theorem dX10_turn_105 : decode cX10_turn 105 = .ok (.getfield 94, 3) := dk_180 0 94 (dk_at dksX10_turn_4 11 rfl rfl)
theorem dX10_turn_108 : decode cX10_turn 108 = .ok (.iload_n 2, 1) := dk_28 (dk_at dksX10_turn_4 14 rfl rfl)
theorem dX10_turn_109 : decode cX10_turn 109 = .ok (.aaload, 1) := dk_50 (dk_at dksX10_turn_4 15 rfl rfl)
theorem dX10_turn_110 : decode cX10_turn 110 = .ok (.checkcast 120, 3) := dk_192 0 120 (dk_at dksX10_turn_4 16 rfl rfl)
theorem dX10_turn_113 : decode cX10_turn 113 = .ok (.invokevirtual 141, 3) := dk_182 0 141 (dk_at dksX10_turn_4 19 rfl rfl)
theorem dX10_turn_116 : decode cX10_turn 116 = .ok (.pop, 1) := dk_87 (dk_at dksX10_turn_4 22 rfl rfl)
theorem dX10_turn_117 : decode cX10_turn 117 = .ok (.return_, 1) := dk_177 (dk_at dksX10_turn_4 23 rfl rfl)
theorem q122 : (Jvm.Cond.initialized "MirrorDoors$Reader") ∈ lw_all := lw_g (lw_at lw_m1 12 rfl) rfl
theorem q241 : (Jvm.Cond.fieldLinkNest "MirrorDoors$Reader" (83 : Nat) "MirrorDoors$World" "wide" "I" "MirrorDoors") ∈ lw_tbl := lw_at lw_m1 131 rfl
theorem q244 : (Jvm.Cond.fieldLinkNest "MirrorDoors$Reader" (91 : Nat) "MirrorDoors$World" "high" "I" "MirrorDoors") ∈ lw_tbl := lw_at lw_m1 134 rfl
theorem q249 : (Jvm.Cond.fieldLinkNest "MirrorDoors$Reader" (94 : Nat) "MirrorDoors$World" "cells" "[LMirrorDoors$Cell;" "MirrorDoors") ∈ lw_tbl := lw_at lw_m1 139 rfl
theorem q254 : (Jvm.Cond.fieldLinkNest "MirrorDoors$Reader" (188 : Nat) "MirrorDoors$World" "lock" "I" "MirrorDoors") ∈ lw_tbl := lw_at lw_m1 144 rfl
theorem q258 : (Jvm.Cond.fieldLinkNest "MirrorDoors$Reader" (190 : Nat) "MirrorDoors$World" "limit" "I" "MirrorDoors") ∈ lw_tbl := lw_at lw_m1 148 rfl
theorem q469 : (Jvm.Cond.fieldLinkNest "MirrorDoors$Reader" (198 : Nat) "MirrorDoors" "ray" "LMirrorDoors$Ray;" "MirrorDoors") ∈ lw_tbl := lw_at lw_m2 119 rfl
theorem q470 : (Jvm.Cond.fieldLinkNest "MirrorDoors$Reader" (19 : Nat) "MirrorDoors" "buffer" "[B" "MirrorDoors") ∈ lw_tbl := lw_at lw_m2 120 rfl
theorem q498 : (Jvm.Cond.instantiable "MirrorDoors$Reader" (6 : Nat)) ∈ lw_all := lw_g (lw_at lw_m2 148 rfl) rfl
theorem q500 : (Jvm.Cond.instanceMethod ({ cls := "MirrorDoors$Reader", name := "<init>", desc := "(LMirrorDoors;I)V" } : Jvm.MethodName)) ∈ lw_all := lw_g (lw_at lw_m2 150 rfl) rfl
theorem q501 : (Jvm.Cond.code ({ cls := "MirrorDoors$Reader", name := "<init>", desc := "(LMirrorDoors;I)V" } : Jvm.MethodName) prog_9_method_1_code (3 : Nat) (Option.none : Option Jvm.ClassFile.FieldType)) ∈ lw_all := lw_g (lw_at lw_m2 151 rfl) rfl
theorem q502 : (Jvm.Cond.methodLink "MirrorDoors$Reader" (9 : Nat) ({ cls := "java/lang/Object", name := "<init>", desc := "()V" } : Jvm.MethodName)) ∈ lw_all := lw_g (lw_at lw_m2 152 rfl) rfl
theorem q503 : (Jvm.Cond.fieldLink "MirrorDoors$Reader" (15 : Nat) "MirrorDoors$Reader" "length" "I") ∈ lw_all := lw_g (lw_at lw_m2 153 rfl) rfl
theorem q504 : (Jvm.Cond.fieldLink "MirrorDoors$Reader" (25 : Nat) "MirrorDoors$Reader" "position" "I") ∈ lw_all := lw_g (lw_at lw_m2 154 rfl) rfl
theorem q505 : (Jvm.Cond.fieldLink "MirrorDoors$Reader" (35 : Nat) "MirrorDoors$Reader" "end" "I") ∈ lw_all := lw_g (lw_at lw_m2 155 rfl) rfl
theorem q506 : (Jvm.Cond.fieldLink "MirrorDoors$Reader" (79 : Nat) "MirrorDoors$Reader" "read" "LMirrorDoors$World;") ∈ lw_all := lw_g (lw_at lw_m2 156 rfl) rfl
theorem q507 : (Jvm.Cond.fieldLink "MirrorDoors$Reader" (128 : Nat) "MirrorDoors$Reader" "turned" "Z") ∈ lw_all := lw_g (lw_at lw_m2 157 rfl) rfl
theorem q508 : (Jvm.Cond.fieldLink "MirrorDoors$Reader" (3 : Nat) "MirrorDoors$Reader" "this$0" "LMirrorDoors;") ∈ lw_all := lw_g (lw_at lw_m2 158 rfl) rfl
theorem q509 : (Jvm.Cond.laysFinal "MirrorDoors$Reader" "MirrorDoors$Reader" "length" "I") ∈ lw_all := lw_g (lw_at lw_m2 159 rfl) rfl
theorem q510 : (Jvm.Cond.soleField "MirrorDoors$Reader" "length") ∈ lw_all := lw_g (lw_at lw_m2 160 rfl) rfl
theorem q511 : (Jvm.Cond.lays "MirrorDoors$Reader" "MirrorDoors$Reader" "position" "I") ∈ lw_all := lw_g (lw_at lw_m2 161 rfl) rfl
theorem q512 : (Jvm.Cond.soleField "MirrorDoors$Reader" "position") ∈ lw_all := lw_g (lw_at lw_m2 162 rfl) rfl
theorem q513 : (Jvm.Cond.lays "MirrorDoors$Reader" "MirrorDoors$Reader" "end" "I") ∈ lw_all := lw_g (lw_at lw_m2 163 rfl) rfl
theorem q514 : (Jvm.Cond.soleField "MirrorDoors$Reader" "end") ∈ lw_all := lw_g (lw_at lw_m2 164 rfl) rfl
theorem q515 : (Jvm.Cond.lays "MirrorDoors$Reader" "MirrorDoors$Reader" "read" "LMirrorDoors$World;") ∈ lw_all := lw_g (lw_at lw_m2 165 rfl) rfl
theorem q516 : (Jvm.Cond.soleField "MirrorDoors$Reader" "read") ∈ lw_all := lw_g (lw_at lw_m2 166 rfl) rfl
theorem q517 : (Jvm.Cond.lays "MirrorDoors$Reader" "MirrorDoors$Reader" "turned" "Z") ∈ lw_all := lw_g (lw_at lw_m2 167 rfl) rfl
theorem q518 : (Jvm.Cond.soleField "MirrorDoors$Reader" "turned") ∈ lw_all := lw_g (lw_at lw_m2 168 rfl) rfl
theorem q519 : (Jvm.Cond.laysFinal "MirrorDoors$Reader" "MirrorDoors$Reader" "this$0" "LMirrorDoors;") ∈ lw_all := lw_g (lw_at lw_m2 169 rfl) rfl
theorem q520 : (Jvm.Cond.soleField "MirrorDoors$Reader" "this$0") ∈ lw_all := lw_g (lw_at lw_m2 170 rfl) rfl
theorem q521 : (Jvm.Cond.superclass "MirrorDoors$Reader" "java/lang/Object") ∈ lw_all := lw_g (lw_at lw_m2 171 rfl) rfl
theorem q523 : (Jvm.Cond.instanceMethod ({ cls := "MirrorDoors$Reader", name := "read", desc := "()LMirrorDoors$World;" } : Jvm.MethodName)) ∈ lw_all := lw_g (lw_at lw_m2 173 rfl) rfl
theorem q524 : (Jvm.Cond.selects "MirrorDoors$Reader" ({ cls := "MirrorDoors$Reader", name := "read", desc := "()LMirrorDoors$World;" } : Jvm.MethodName) ({ cls := "MirrorDoors$Reader", name := "read", desc := "()LMirrorDoors$World;" } : Jvm.MethodName)) ∈ lw_all := lw_g (lw_at lw_m2 174 rfl) rfl
theorem q525 : (Jvm.Cond.code ({ cls := "MirrorDoors$Reader", name := "read", desc := "()LMirrorDoors$World;" } : Jvm.MethodName) prog_9_method_17_code (5 : Nat) (Option.some (Jvm.ClassFile.FieldType.object "MirrorDoors$World"))) ∈ lw_all := lw_g (lw_at lw_m2 175 rfl) rfl
theorem q526 : (Jvm.Cond.stringRef "MirrorDoors$Reader" (194 : Nat) "board") ∈ lw_tbl := lw_at lw_m2 176 rfl
theorem q527 : (Jvm.Cond.methodLink "MirrorDoors$Reader" (106 : Nat) ({ cls := "MirrorDoors$Reader", name := "passes", desc := "(Ljava/lang/String;)Z" } : Jvm.MethodName)) ∈ lw_all := lw_g (lw_at lw_m2 177 rfl) rfl
theorem q528 : (Jvm.Cond.privateMethod ({ cls := "MirrorDoors$Reader", name := "passes", desc := "(Ljava/lang/String;)Z" } : Jvm.MethodName)) ∈ lw_tbl := lw_at lw_m2 178 rfl
theorem q529 : (Jvm.Cond.instanceMethod ({ cls := "MirrorDoors$Reader", name := "passes", desc := "(Ljava/lang/String;)Z" } : Jvm.MethodName)) ∈ lw_all := lw_g (lw_at lw_m2 179 rfl) rfl
theorem q530 : (Jvm.Cond.code ({ cls := "MirrorDoors$Reader", name := "passes", desc := "(Ljava/lang/String;)Z" } : Jvm.MethodName) prog_9_method_6_code (3 : Nat) (Option.some Jvm.ClassFile.FieldType.boolean)) ∈ lw_all := lw_g (lw_at lw_m2 180 rfl) rfl
theorem q531 : (Jvm.Cond.methodLink "MirrorDoors$Reader" (56 : Nat) ({ cls := "MirrorDoors$Reader", name := "word", desc := "()Ljava/lang/String;" } : Jvm.MethodName)) ∈ lw_all := lw_g (lw_at lw_m2 181 rfl) rfl
theorem q532 : (Jvm.Cond.privateMethod ({ cls := "MirrorDoors$Reader", name := "word", desc := "()Ljava/lang/String;" } : Jvm.MethodName)) ∈ lw_tbl := lw_at lw_m2 182 rfl
theorem q533 : (Jvm.Cond.instanceMethod ({ cls := "MirrorDoors$Reader", name := "word", desc := "()Ljava/lang/String;" } : Jvm.MethodName)) ∈ lw_all := lw_g (lw_at lw_m2 183 rfl) rfl
theorem q534 : (Jvm.Cond.code ({ cls := "MirrorDoors$Reader", name := "word", desc := "()Ljava/lang/String;" } : Jvm.MethodName) prog_9_method_5_code (2 : Nat) (Option.some (Jvm.ClassFile.FieldType.object "java/lang/String"))) ∈ lw_all := lw_g (lw_at lw_m2 184 rfl) rfl
theorem q535 : (Jvm.Cond.methodLink "MirrorDoors$Reader" (38 : Nat) ({ cls := "MirrorDoors$Reader", name := "skip", desc := "()V" } : Jvm.MethodName)) ∈ lw_all := lw_g (lw_at lw_m2 185 rfl) rfl
theorem q536 : (Jvm.Cond.privateMethod ({ cls := "MirrorDoors$Reader", name := "skip", desc := "()V" } : Jvm.MethodName)) ∈ lw_tbl := lw_at lw_m2 186 rfl
theorem q537 : (Jvm.Cond.instanceMethod ({ cls := "MirrorDoors$Reader", name := "skip", desc := "()V" } : Jvm.MethodName)) ∈ lw_all := lw_g (lw_at lw_m2 187 rfl) rfl
theorem q538 : (Jvm.Cond.code ({ cls := "MirrorDoors$Reader", name := "skip", desc := "()V" } : Jvm.MethodName) prog_9_method_4_code (1 : Nat) (Option.none : Option Jvm.ClassFile.FieldType)) ∈ lw_all := lw_g (lw_at lw_m2 188 rfl) rfl
theorem q539 : (Jvm.Cond.methodLink "MirrorDoors$Reader" (31 : Nat) ({ cls := "MirrorDoors$Reader", name := "byteAt", desc := "(I)I" } : Jvm.MethodName)) ∈ lw_all := lw_g (lw_at lw_m2 189 rfl) rfl
theorem q540 : (Jvm.Cond.privateMethod ({ cls := "MirrorDoors$Reader", name := "byteAt", desc := "(I)I" } : Jvm.MethodName)) ∈ lw_tbl := lw_at lw_m2 190 rfl
theorem q541 : (Jvm.Cond.instanceMethod ({ cls := "MirrorDoors$Reader", name := "byteAt", desc := "(I)I" } : Jvm.MethodName)) ∈ lw_all := lw_g (lw_at lw_m2 191 rfl) rfl
theorem q542 : (Jvm.Cond.code ({ cls := "MirrorDoors$Reader", name := "byteAt", desc := "(I)I" } : Jvm.MethodName) prog_9_method_2_code (2 : Nat) (Option.some Jvm.ClassFile.FieldType.int)) ∈ lw_all := lw_g (lw_at lw_m2 192 rfl) rfl
theorem q543 : (Jvm.Cond.classLink "MirrorDoors$Reader" (41 : Nat) "java/lang/StringBuilder") ∈ lw_all := lw_g (lw_at lw_m2 193 rfl) rfl
theorem q545 : (Jvm.Cond.methodLink "MirrorDoors$Reader" (43 : Nat) ({ cls := "java/lang/StringBuilder", name := "<init>", desc := "()V" } : Jvm.MethodName)) ∈ lw_all := lw_g (lw_at lw_m2 195 rfl) rfl
theorem q574 : (Jvm.Cond.methodLinkNest "MirrorDoors$Reader" (44 : Nat) ({ cls := "MirrorDoors", name := "isIn", desc := "(III)Z" } : Jvm.MethodName) "MirrorDoors") ∈ lw_tbl := lw_at lw_m2 224 rfl
theorem q575 : (Jvm.Cond.methodLink "MirrorDoors$Reader" (48 : Nat) ({ cls := "java/lang/StringBuilder", name := "append", desc := "(C)Ljava/lang/StringBuilder;" } : Jvm.MethodName)) ∈ lw_all := lw_g (lw_at lw_m2 225 rfl) rfl
theorem q670 : (Jvm.Cond.methodLink "MirrorDoors$Reader" (52 : Nat) ({ cls := "java/lang/StringBuilder", name := "toString", desc := "()Ljava/lang/String;" } : Jvm.MethodName)) ∈ lw_all := lw_g (lw_at lw_m3 80 rfl) rfl
theorem q876 : (Jvm.Cond.methodLink "MirrorDoors$Reader" (59 : Nat) ({ cls := "java/lang/String", name := "equals", desc := "(Ljava/lang/Object;)Z" } : Jvm.MethodName)) ∈ lw_all := lw_g (lw_at lw_m4 46 rfl) rfl
theorem q884 : (Jvm.Cond.methodLink "MirrorDoors$Reader" (72 : Nat) ({ cls := "MirrorDoors$Reader", name := "need", desc := "(ZI)V" } : Jvm.MethodName)) ∈ lw_all := lw_g (lw_at lw_m4 54 rfl) rfl
theorem q885 : (Jvm.Cond.privateMethod ({ cls := "MirrorDoors$Reader", name := "need", desc := "(ZI)V" } : Jvm.MethodName)) ∈ lw_tbl := lw_at lw_m4 55 rfl
theorem q886 : (Jvm.Cond.instanceMethod ({ cls := "MirrorDoors$Reader", name := "need", desc := "(ZI)V" } : Jvm.MethodName)) ∈ lw_all := lw_g (lw_at lw_m4 56 rfl) rfl
theorem q887 : (Jvm.Cond.code ({ cls := "MirrorDoors$Reader", name := "need", desc := "(ZI)V" } : Jvm.MethodName) prog_9_method_3_code (3 : Nat) (Option.none : Option Jvm.ClassFile.FieldType)) ∈ lw_all := lw_g (lw_at lw_m4 57 rfl) rfl
theorem q888 : (Jvm.Cond.classLink "MirrorDoors$Reader" (23 : Nat) "MirrorDoors$TextException") ∈ lw_all := lw_g (lw_at lw_m4 58 rfl) rfl
theorem q897 : (Jvm.Cond.methodLink "MirrorDoors$Reader" (28 : Nat) ({ cls := "MirrorDoors$TextException", name := "<init>", desc := "(II)V" } : Jvm.MethodName)) ∈ lw_all := lw_g (lw_at lw_m4 67 rfl) rfl
theorem q914 : (Jvm.Cond.methodLink "MirrorDoors$Reader" (88 : Nat) ({ cls := "MirrorDoors$Reader", name := "number", desc := "(II)I" } : Jvm.MethodName)) ∈ lw_all := lw_g (lw_at lw_m4 84 rfl) rfl
theorem q915 : (Jvm.Cond.privateMethod ({ cls := "MirrorDoors$Reader", name := "number", desc := "(II)I" } : Jvm.MethodName)) ∈ lw_tbl := lw_at lw_m4 85 rfl
theorem q916 : (Jvm.Cond.instanceMethod ({ cls := "MirrorDoors$Reader", name := "number", desc := "(II)I" } : Jvm.MethodName)) ∈ lw_all := lw_g (lw_at lw_m4 86 rfl) rfl
theorem q917 : (Jvm.Cond.code ({ cls := "MirrorDoors$Reader", name := "number", desc := "(II)I" } : Jvm.MethodName) prog_9_method_8_code (4 : Nat) (Option.some Jvm.ClassFile.FieldType.int)) ∈ lw_all := lw_g (lw_at lw_m4 87 rfl) rfl
theorem q918 : (Jvm.Cond.methodLink "MirrorDoors$Reader" (76 : Nat) ({ cls := "MirrorDoors$Reader", name := "ahead", desc := "(II)I" } : Jvm.MethodName)) ∈ lw_all := lw_g (lw_at lw_m4 88 rfl) rfl
theorem q919 : (Jvm.Cond.privateMethod ({ cls := "MirrorDoors$Reader", name := "ahead", desc := "(II)I" } : Jvm.MethodName)) ∈ lw_tbl := lw_at lw_m4 89 rfl
theorem q920 : (Jvm.Cond.instanceMethod ({ cls := "MirrorDoors$Reader", name := "ahead", desc := "(II)I" } : Jvm.MethodName)) ∈ lw_all := lw_g (lw_at lw_m4 90 rfl) rfl
theorem q921 : (Jvm.Cond.code ({ cls := "MirrorDoors$Reader", name := "ahead", desc := "(II)I" } : Jvm.MethodName) prog_9_method_7_code (4 : Nat) (Option.some Jvm.ClassFile.FieldType.int)) ∈ lw_all := lw_g (lw_at lw_m4 91 rfl) rfl
theorem q922 : (Jvm.Cond.constant "MirrorDoors$Reader" (65 : Nat) (100000 : Int32)) ∈ lw_all := lw_g (lw_at lw_m4 92 rfl) rfl
theorem q923 : (Jvm.Cond.methodLink "MirrorDoors$Reader" (66 : Nat) ({ cls := "java/lang/Math", name := "min", desc := "(II)I" } : Jvm.MethodName)) ∈ lw_all := lw_g (lw_at lw_m4 93 rfl) rfl
theorem q924 : (Jvm.Cond.stringRef "MirrorDoors$Reader" (196 : Nat) "lamp") ∈ lw_tbl := lw_at lw_m4 94 rfl
theorem q925 : (Jvm.Cond.classLink "MirrorDoors$Reader" (84 : Nat) "MirrorDoors$World") ∈ lw_all := lw_g (lw_at lw_m4 95 rfl) rfl
theorem q926 : (Jvm.Cond.methodLink "MirrorDoors$Reader" (202 : Nat) ({ cls := "MirrorDoors$World", name := "<init>", desc := "(LMirrorDoors$Ray;IIII)V" } : Jvm.MethodName)) ∈ lw_all := lw_g (lw_at lw_m4 96 rfl) rfl
theorem q927 : (Jvm.Cond.methodLink "MirrorDoors$Reader" (138 : Nat) ({ cls := "MirrorDoors$Reader", name := "semicolon", desc := "()V" } : Jvm.MethodName)) ∈ lw_all := lw_g (lw_at lw_m4 97 rfl) rfl
theorem q928 : (Jvm.Cond.privateMethod ({ cls := "MirrorDoors$Reader", name := "semicolon", desc := "()V" } : Jvm.MethodName)) ∈ lw_tbl := lw_at lw_m4 98 rfl
theorem q929 : (Jvm.Cond.instanceMethod ({ cls := "MirrorDoors$Reader", name := "semicolon", desc := "()V" } : Jvm.MethodName)) ∈ lw_all := lw_g (lw_at lw_m4 99 rfl) rfl
theorem q930 : (Jvm.Cond.code ({ cls := "MirrorDoors$Reader", name := "semicolon", desc := "()V" } : Jvm.MethodName) prog_9_method_9_code (1 : Nat) (Option.none : Option Jvm.ClassFile.FieldType)) ∈ lw_all := lw_g (lw_at lw_m4 100 rfl) rfl
theorem q931 : (Jvm.Cond.methodLink "MirrorDoors$Reader" (205 : Nat) ({ cls := "MirrorDoors$Reader", name := "statement", desc := "()V" } : Jvm.MethodName)) ∈ lw_all := lw_g (lw_at lw_m4 101 rfl) rfl
theorem q932 : (Jvm.Cond.privateMethod ({ cls := "MirrorDoors$Reader", name := "statement", desc := "()V" } : Jvm.MethodName)) ∈ lw_tbl := lw_at lw_m4 102 rfl
theorem q933 : (Jvm.Cond.instanceMethod ({ cls := "MirrorDoors$Reader", name := "statement", desc := "()V" } : Jvm.MethodName)) ∈ lw_all := lw_g (lw_at lw_m4 103 rfl) rfl
theorem q934 : (Jvm.Cond.code ({ cls := "MirrorDoors$Reader", name := "statement", desc := "()V" } : Jvm.MethodName) prog_9_method_16_code (6 : Nat) (Option.none : Option Jvm.ClassFile.FieldType)) ∈ lw_all := lw_g (lw_at lw_m4 104 rfl) rfl
theorem q935 : (Jvm.Cond.stringRef "MirrorDoors$Reader" (159 : Nat) "turn") ∈ lw_tbl := lw_at lw_m4 105 rfl
theorem q936 : (Jvm.Cond.methodLink "MirrorDoors$Reader" (161 : Nat) ({ cls := "MirrorDoors$Reader", name := "hasRoom", desc := "(Ljava/lang/String;)Z" } : Jvm.MethodName)) ∈ lw_all := lw_g (lw_at lw_m4 106 rfl) rfl
theorem q937 : (Jvm.Cond.privateMethod ({ cls := "MirrorDoors$Reader", name := "hasRoom", desc := "(Ljava/lang/String;)Z" } : Jvm.MethodName)) ∈ lw_tbl := lw_at lw_m4 107 rfl
theorem q938 : (Jvm.Cond.instanceMethod ({ cls := "MirrorDoors$Reader", name := "hasRoom", desc := "(Ljava/lang/String;)Z" } : Jvm.MethodName)) ∈ lw_all := lw_g (lw_at lw_m4 108 rfl) rfl
theorem q939 : (Jvm.Cond.code ({ cls := "MirrorDoors$Reader", name := "hasRoom", desc := "(Ljava/lang/String;)Z" } : Jvm.MethodName) prog_9_method_15_code (4 : Nat) (Option.some Jvm.ClassFile.FieldType.boolean)) ∈ lw_all := lw_g (lw_at lw_m4 109 rfl) rfl
theorem q940 : (Jvm.Cond.methodLink "MirrorDoors$Reader" (145 : Nat) ({ cls := "java/lang/String", name := "hashCode", desc := "()I" } : Jvm.MethodName)) ∈ lw_all := lw_g (lw_at lw_m4 110 rfl) rfl
theorem q1001 : (Jvm.Cond.stringRef "MirrorDoors$Reader" (148 : Nat) "mirror") ∈ lw_tbl := lw_at lw_m4 171 rfl
theorem q1002 : (Jvm.Cond.stringRef "MirrorDoors$Reader" (150 : Nat) "half") ∈ lw_tbl := lw_at lw_m4 172 rfl
theorem q1003 : (Jvm.Cond.stringRef "MirrorDoors$Reader" (152 : Nat) "door") ∈ lw_tbl := lw_at lw_m4 173 rfl
theorem q1004 : (Jvm.Cond.stringRef "MirrorDoors$Reader" (154 : Nat) "portal") ∈ lw_tbl := lw_at lw_m4 174 rfl
theorem q1005 : (Jvm.Cond.methodLink "MirrorDoors$Reader" (156 : Nat) ({ cls := "MirrorDoors$World", name := "many", desc := "(I)I" } : Jvm.MethodName)) ∈ lw_all := lw_g (lw_at lw_m4 175 rfl) rfl
theorem q1030 : (Jvm.Cond.stringRef "MirrorDoors$Reader" (164 : Nat) "wall") ∈ lw_tbl := lw_at lw_m4 200 rfl
theorem q1031 : (Jvm.Cond.stringRef "MirrorDoors$Reader" (166 : Nat) "gate") ∈ lw_tbl := lw_at lw_m4 201 rfl
theorem q1032 : (Jvm.Cond.stringRef "MirrorDoors$Reader" (168 : Nat) "lock") ∈ lw_tbl := lw_at lw_m4 202 rfl
theorem q1033 : (Jvm.Cond.stringRef "MirrorDoors$Reader" (170 : Nat) "limit") ∈ lw_tbl := lw_at lw_m4 203 rfl
theorem q1034 : (Jvm.Cond.methodLink "MirrorDoors$Reader" (112 : Nat) ({ cls := "MirrorDoors$Reader", name := "free", desc := "(I)I" } : Jvm.MethodName)) ∈ lw_all := lw_g (lw_at lw_m4 204 rfl) rfl
theorem q1035 : (Jvm.Cond.privateMethod ({ cls := "MirrorDoors$Reader", name := "free", desc := "(I)I" } : Jvm.MethodName)) ∈ lw_tbl := lw_at lw_m4 205 rfl
theorem q1036 : (Jvm.Cond.instanceMethod ({ cls := "MirrorDoors$Reader", name := "free", desc := "(I)I" } : Jvm.MethodName)) ∈ lw_all := lw_g (lw_at lw_m4 206 rfl) rfl
theorem q1037 : (Jvm.Cond.code ({ cls := "MirrorDoors$Reader", name := "free", desc := "(I)I" } : Jvm.MethodName) prog_9_method_10_code (4 : Nat) (Option.some Jvm.ClassFile.FieldType.int)) ∈ lw_all := lw_g (lw_at lw_m4 207 rfl) rfl
theorem q1038 : (Jvm.Cond.methodLink "MirrorDoors$Reader" (98 : Nat) ({ cls := "MirrorDoors$Cell", name := "kind", desc := "()I" } : Jvm.MethodName)) ∈ lw_all := lw_g (lw_at lw_m4 208 rfl) rfl
theorem q1039 : (Jvm.Cond.classLink "MirrorDoors$Reader" (172 : Nat) "MirrorDoors$Solid") ∈ lw_all := lw_g (lw_at lw_m4 209 rfl) rfl
theorem q1040 : (Jvm.Cond.methodLink "MirrorDoors$Reader" (174 : Nat) ({ cls := "MirrorDoors$Solid", name := "<init>", desc := "(I)V" } : Jvm.MethodName)) ∈ lw_all := lw_g (lw_at lw_m4 210 rfl) rfl
theorem q1044 : (Jvm.Cond.methodLink "MirrorDoors$Reader" (177 : Nat) ({ cls := "MirrorDoors$Reader", name := "mirror", desc := "(Z)V" } : Jvm.MethodName)) ∈ lw_all := lw_g (lw_at lw_m4 214 rfl) rfl
theorem q1045 : (Jvm.Cond.privateMethod ({ cls := "MirrorDoors$Reader", name := "mirror", desc := "(Z)V" } : Jvm.MethodName)) ∈ lw_tbl := lw_at lw_m4 215 rfl
theorem q1046 : (Jvm.Cond.instanceMethod ({ cls := "MirrorDoors$Reader", name := "mirror", desc := "(Z)V" } : Jvm.MethodName)) ∈ lw_all := lw_g (lw_at lw_m4 216 rfl) rfl
theorem q1047 : (Jvm.Cond.code ({ cls := "MirrorDoors$Reader", name := "mirror", desc := "(Z)V" } : Jvm.MethodName) prog_9_method_12_code (5 : Nat) (Option.none : Option Jvm.ClassFile.FieldType)) ∈ lw_all := lw_g (lw_at lw_m4 217 rfl) rfl
theorem q1048 : (Jvm.Cond.methodLink "MirrorDoors$Reader" (115 : Nat) ({ cls := "MirrorDoors$Reader", name := "slant", desc := "()I" } : Jvm.MethodName)) ∈ lw_all := lw_g (lw_at lw_m4 218 rfl) rfl
theorem q1049 : (Jvm.Cond.privateMethod ({ cls := "MirrorDoors$Reader", name := "slant", desc := "()I" } : Jvm.MethodName)) ∈ lw_tbl := lw_at lw_m4 219 rfl
theorem q1050 : (Jvm.Cond.instanceMethod ({ cls := "MirrorDoors$Reader", name := "slant", desc := "()I" } : Jvm.MethodName)) ∈ lw_all := lw_g (lw_at lw_m4 220 rfl) rfl
theorem q1051 : (Jvm.Cond.code ({ cls := "MirrorDoors$Reader", name := "slant", desc := "()I" } : Jvm.MethodName) prog_9_method_11_code (1 : Nat) (Option.some Jvm.ClassFile.FieldType.int)) ∈ lw_all := lw_g (lw_at lw_m4 221 rfl) rfl
theorem q1052 : (Jvm.Cond.stringRef "MirrorDoors$Reader" (104 : Nat) "slash") ∈ lw_tbl := lw_at lw_m4 222 rfl
theorem q1053 : (Jvm.Cond.stringRef "MirrorDoors$Reader" (110 : Nat) "back") ∈ lw_tbl := lw_at lw_m4 223 rfl
theorem q1054 : (Jvm.Cond.stringRef "MirrorDoors$Reader" (118 : Nat) "of") ∈ lw_tbl := lw_at lw_m4 224 rfl
theorem q1055 : (Jvm.Cond.classLink "MirrorDoors$Reader" (120 : Nat) "MirrorDoors$Mirror") ∈ lw_all := lw_g (lw_at lw_m4 225 rfl) rfl
theorem q1056 : (Jvm.Cond.methodLink "MirrorDoors$Reader" (122 : Nat) ({ cls := "MirrorDoors$Mirror", name := "<init>", desc := "(IZII)V" } : Jvm.MethodName)) ∈ lw_all := lw_g (lw_at lw_m4 226 rfl) rfl
theorem q1057 : (Jvm.Cond.classLink "MirrorDoors$Reader" (180 : Nat) "MirrorDoors$Door") ∈ lw_all := lw_g (lw_at lw_m4 227 rfl) rfl
theorem q1058 : (Jvm.Cond.methodLink "MirrorDoors$Reader" (182 : Nat) ({ cls := "MirrorDoors$Door", name := "<init>", desc := "(II)V" } : Jvm.MethodName)) ∈ lw_all := lw_g (lw_at lw_m4 228 rfl) rfl
theorem q1059 : (Jvm.Cond.classLink "MirrorDoors$Reader" (183 : Nat) "MirrorDoors$Gate") ∈ lw_all := lw_g (lw_at lw_m4 229 rfl) rfl
theorem q1061 : (Jvm.Cond.methodLink "MirrorDoors$Reader" (185 : Nat) ({ cls := "MirrorDoors$Gate", name := "<init>", desc := "(II)V" } : Jvm.MethodName)) ∈ lw_all := lw_g (lw_at lw_m4 231 rfl) rfl
theorem q1070 : (Jvm.Cond.methodLink "MirrorDoors$Reader" (186 : Nat) ({ cls := "MirrorDoors$Reader", name := "portal", desc := "()V" } : Jvm.MethodName)) ∈ lw_all := lw_g (lw_at lw_m5 0 rfl) rfl
theorem q1071 : (Jvm.Cond.privateMethod ({ cls := "MirrorDoors$Reader", name := "portal", desc := "()V" } : Jvm.MethodName)) ∈ lw_tbl := lw_at lw_m5 1 rfl
theorem q1072 : (Jvm.Cond.instanceMethod ({ cls := "MirrorDoors$Reader", name := "portal", desc := "()V" } : Jvm.MethodName)) ∈ lw_all := lw_g (lw_at lw_m5 2 rfl) rfl
theorem q1073 : (Jvm.Cond.code ({ cls := "MirrorDoors$Reader", name := "portal", desc := "()V" } : Jvm.MethodName) prog_9_method_13_code (3 : Nat) (Option.none : Option Jvm.ClassFile.FieldType)) ∈ lw_all := lw_g (lw_at lw_m5 3 rfl) rfl
theorem q1074 : (Jvm.Cond.classLink "MirrorDoors$Reader" (125 : Nat) "MirrorDoors$Portal") ∈ lw_all := lw_g (lw_at lw_m5 4 rfl) rfl
theorem q1076 : (Jvm.Cond.methodLink "MirrorDoors$Reader" (127 : Nat) ({ cls := "MirrorDoors$Portal", name := "<init>", desc := "(II)V" } : Jvm.MethodName)) ∈ lw_all := lw_g (lw_at lw_m5 6 rfl) rfl
theorem q1085 : (Jvm.Cond.methodLink "MirrorDoors$Reader" (192 : Nat) ({ cls := "MirrorDoors$Reader", name := "turn", desc := "()V" } : Jvm.MethodName)) ∈ lw_all := lw_g (lw_at lw_m5 15 rfl) rfl
theorem q1086 : (Jvm.Cond.privateMethod ({ cls := "MirrorDoors$Reader", name := "turn", desc := "()V" } : Jvm.MethodName)) ∈ lw_tbl := lw_at lw_m5 16 rfl
theorem q1087 : (Jvm.Cond.instanceMethod ({ cls := "MirrorDoors$Reader", name := "turn", desc := "()V" } : Jvm.MethodName)) ∈ lw_all := lw_g (lw_at lw_m5 17 rfl) rfl
theorem q1088 : (Jvm.Cond.code ({ cls := "MirrorDoors$Reader", name := "turn", desc := "()V" } : Jvm.MethodName) prog_9_method_14_code (3 : Nat) (Option.none : Option Jvm.ClassFile.FieldType)) ∈ lw_all := lw_g (lw_at lw_m5 18 rfl) rfl
theorem q1089 : (Jvm.Cond.methodLink "MirrorDoors$Reader" (132 : Nat) ({ cls := "MirrorDoors$World", name := "laysOpen", desc := "()V" } : Jvm.MethodName)) ∈ lw_all := lw_g (lw_at lw_m5 19 rfl) rfl
theorem q1090 : (Jvm.Cond.methodLink "MirrorDoors$Reader" (135 : Nat) ({ cls := "MirrorDoors$World", name := "whyNotTurn", desc := "(I)I" } : Jvm.MethodName)) ∈ lw_all := lw_g (lw_at lw_m5 20 rfl) rfl
theorem q1133 : (Jvm.Cond.methodLink "MirrorDoors$Reader" (141 : Nat) ({ cls := "MirrorDoors$World", name := "moves", desc := "(LMirrorDoors$Mirror;)I" } : Jvm.MethodName)) ∈ lw_all := lw_g (lw_at lw_m5 63 rfl) rfl
theorem q1211 : (Jvm.Cond.selects "MirrorDoors$Reader" ({ cls := "java/lang/Object", name := "getClass", desc := "()Ljava/lang/Class;" } : Jvm.MethodName) ({ cls := "java/lang/Object", name := "getClass", desc := "()Ljava/lang/Class;" } : Jvm.MethodName)) ∈ lw_all := lw_g (lw_at lw_m5 141 rfl) rfl
theorem q1530 : (Jvm.Cond.selects "MirrorDoors$Reader" ({ cls := "java/lang/Object", name := "equals", desc := "(Ljava/lang/Object;)Z" } : Jvm.MethodName) ({ cls := "java/lang/Object", name := "equals", desc := "(Ljava/lang/Object;)Z" } : Jvm.MethodName)) ∈ lw_all := lw_g (lw_at lw_m6 220 rfl) rfl
theorem q2389 : (Jvm.Cond.castable "MirrorDoors$Reader" "java/lang/Object") ∈ lw_tbl := lw_at lw_m10 119 rfl
theorem in_X10 : ∀ w ∈ wsX100, w ∈ lw_all := lw_in wsX100 [509, 511, 513, 515, 517, 519] (by decide +kernel) (by decide +kernel)

/-! MirrorDoors$TextException -/
set_option maxRecDepth 100000
def RX11 : String := "MirrorDoors$TextException"
def TX11 : u_T := fun k => match k with
  | 0 => ("java/lang/Throwable", "cause", "Ljava/lang/Throwable;", false)
  | 1 => ("java/lang/Throwable", "stackTrace", "[Ljava/lang/StackTraceElement;", false)
  | 2 => ("java/lang/Throwable", "suppressedExceptions", "Ljava/util/List;", false)
  | 3 => ("java/lang/Throwable", "detailMessage", "Ljava/lang/String;", false)
  | 4 => ("java/lang/Throwable", "backtrace", "Ljava/lang/Object;", false)
  | 5 => ("java/lang/Throwable", "depth", "I", false)
  | 6 => ("MirrorDoors$TextException", "code", "I", true)
  | _ => ("MirrorDoors$TextException", "position", "I", true)
def tyX11 : Nat → FieldType := fun k => match k with
  | 0 => .object "java/lang/Throwable"
  | 1 => .array (.object "java/lang/StackTraceElement")
  | 2 => .object "java/util/List"
  | 3 => .object "java/lang/String"
  | 4 => .object "java/lang/Object"
  | 5 => .int
  | 6 => .int
  | _ => .int
abbrev wsX110 : List Cond := u_ws RX11 TX11 8
theorem nmX11 : ∀ a, a < 8 → ∀ b, b < 8 → a ≠ b → (TX11 a).2.1 ≠ (TX11 b).2.1 := by decide +kernel
theorem tyX11_ok : ∀ k, k < 8 → parseFieldDescriptor (TX11 k).2.2.1 = some (tyX11 k) := by decide +kernel
abbrev cX11_init : ByteArray := prog_12_method_1_code
def yX11_init : MethodName := ⟨RX11, "<init>", "(II)V"⟩
def dkwX11_init_0 : List UInt8 := [42, 183, 0, 1, 42, 27, 181, 0, 7, 42, 28, 181, 0, 13, 177]
abbrev dktX11_init_0 : List UInt8 := dkwX11_init_0 ++ []
theorem dksX11_init_0 : cX11_init.data.toList.drop 0 = dktX11_init_0 := by decide +kernel
theorem dX11_init_0 : decode cX11_init 0 = .ok (.aload_n 0, 1) := dk_42 (dk_at dksX11_init_0 0 rfl rfl)
theorem dX11_init_1 : decode cX11_init 1 = .ok (.invokespecial 1, 3) := dk_183 0 1 (dk_at dksX11_init_0 1 rfl rfl)
theorem dX11_init_4 : decode cX11_init 4 = .ok (.aload_n 0, 1) := dk_42 (dk_at dksX11_init_0 4 rfl rfl)
theorem dX11_init_5 : decode cX11_init 5 = .ok (.iload_n 1, 1) := dk_27 (dk_at dksX11_init_0 5 rfl rfl)
theorem dX11_init_6 : decode cX11_init 6 = .ok (.putfield 7, 3) := dk_181 0 7 (dk_at dksX11_init_0 6 rfl rfl)
theorem dX11_init_9 : decode cX11_init 9 = .ok (.aload_n 0, 1) := dk_42 (dk_at dksX11_init_0 9 rfl rfl)
theorem dX11_init_10 : decode cX11_init 10 = .ok (.iload_n 2, 1) := dk_28 (dk_at dksX11_init_0 10 rfl rfl)
theorem dX11_init_11 : decode cX11_init 11 = .ok (.putfield 13, 3) := dk_181 0 13 (dk_at dksX11_init_0 11 rfl rfl)
theorem dX11_init_14 : decode cX11_init 14 = .ok (.return_, 1) := dk_177 (dk_at dksX11_init_0 14 rfl rfl)
theorem q139 : (Jvm.Cond.initialized "MirrorDoors$TextException") ∈ lw_all := lw_g (lw_at lw_m1 29 rfl) rfl
theorem q739 : (Jvm.Cond.selects "MirrorDoors$TextException" ({ cls := "java/lang/Throwable", name := "fillInStackTrace", desc := "()Ljava/lang/Throwable;" } : Jvm.MethodName) ({ cls := "java/lang/Throwable", name := "fillInStackTrace", desc := "()Ljava/lang/Throwable;" } : Jvm.MethodName)) ∈ lw_all := lw_g (lw_at lw_m3 149 rfl) rfl
theorem q889 : (Jvm.Cond.instantiable "MirrorDoors$TextException" (8 : Nat)) ∈ lw_all := lw_g (lw_at lw_m4 59 rfl) rfl
theorem q890 : (Jvm.Cond.castable "MirrorDoors$TextException" "MirrorDoors$TextException") ∈ lw_tbl := lw_at lw_m4 60 rfl
theorem q891 : (Jvm.Cond.selects "MirrorDoors$TextException" ({ cls := "java/lang/Throwable", name := "fillInStackTrace", desc := "(I)Ljava/lang/Throwable;" } : Jvm.MethodName) ({ cls := "java/lang/Throwable", name := "fillInStackTrace", desc := "(I)Ljava/lang/Throwable;" } : Jvm.MethodName)) ∈ lw_all := lw_g (lw_at lw_m4 61 rfl) rfl
theorem q892 : (Jvm.Cond.lays "MirrorDoors$TextException" "java/lang/Throwable" "cause" "Ljava/lang/Throwable;") ∈ lw_all := lw_g (lw_at lw_m4 62 rfl) rfl
theorem q893 : (Jvm.Cond.lays "MirrorDoors$TextException" "java/lang/Throwable" "stackTrace" "[Ljava/lang/StackTraceElement;") ∈ lw_all := lw_g (lw_at lw_m4 63 rfl) rfl
theorem q894 : (Jvm.Cond.lays "MirrorDoors$TextException" "java/lang/Throwable" "suppressedExceptions" "Ljava/util/List;") ∈ lw_all := lw_g (lw_at lw_m4 64 rfl) rfl
theorem q895 : (Jvm.Cond.lays "MirrorDoors$TextException" "java/lang/Throwable" "detailMessage" "Ljava/lang/String;") ∈ lw_all := lw_g (lw_at lw_m4 65 rfl) rfl
theorem q896 : (Jvm.Cond.lays "MirrorDoors$TextException" "java/lang/Throwable" "backtrace" "Ljava/lang/Object;") ∈ lw_all := lw_g (lw_at lw_m4 66 rfl) rfl
theorem q898 : (Jvm.Cond.instanceMethod ({ cls := "MirrorDoors$TextException", name := "<init>", desc := "(II)V" } : Jvm.MethodName)) ∈ lw_all := lw_g (lw_at lw_m4 68 rfl) rfl
theorem q899 : (Jvm.Cond.code ({ cls := "MirrorDoors$TextException", name := "<init>", desc := "(II)V" } : Jvm.MethodName) prog_12_method_1_code (3 : Nat) (Option.none : Option Jvm.ClassFile.FieldType)) ∈ lw_all := lw_g (lw_at lw_m4 69 rfl) rfl
theorem q900 : (Jvm.Cond.methodLink "MirrorDoors$TextException" (1 : Nat) ({ cls := "java/lang/Exception", name := "<init>", desc := "()V" } : Jvm.MethodName)) ∈ lw_all := lw_g (lw_at lw_m4 70 rfl) rfl
theorem q904 : (Jvm.Cond.fieldLink "MirrorDoors$TextException" (7 : Nat) "MirrorDoors$TextException" "code" "I") ∈ lw_all := lw_g (lw_at lw_m4 74 rfl) rfl
theorem q906 : (Jvm.Cond.fieldLink "MirrorDoors$TextException" (13 : Nat) "MirrorDoors$TextException" "position" "I") ∈ lw_all := lw_g (lw_at lw_m4 76 rfl) rfl
theorem q908 : (Jvm.Cond.laysFinal "MirrorDoors$TextException" "MirrorDoors$TextException" "code" "I") ∈ lw_all := lw_g (lw_at lw_m4 78 rfl) rfl
theorem q909 : (Jvm.Cond.soleField "MirrorDoors$TextException" "code") ∈ lw_all := lw_g (lw_at lw_m4 79 rfl) rfl
theorem q910 : (Jvm.Cond.laysFinal "MirrorDoors$TextException" "MirrorDoors$TextException" "position" "I") ∈ lw_all := lw_g (lw_at lw_m4 80 rfl) rfl
theorem q911 : (Jvm.Cond.soleField "MirrorDoors$TextException" "position") ∈ lw_all := lw_g (lw_at lw_m4 81 rfl) rfl
theorem q912 : (Jvm.Cond.lays "MirrorDoors$TextException" "java/lang/Throwable" "depth" "I") ∈ lw_all := lw_g (lw_at lw_m4 82 rfl) rfl
theorem q913 : (Jvm.Cond.superclass "MirrorDoors$TextException" "java/lang/Exception") ∈ lw_all := lw_g (lw_at lw_m4 83 rfl) rfl
theorem q1213 : (Jvm.Cond.selects "MirrorDoors$TextException" ({ cls := "java/lang/Object", name := "getClass", desc := "()Ljava/lang/Class;" } : Jvm.MethodName) ({ cls := "java/lang/Object", name := "getClass", desc := "()Ljava/lang/Class;" } : Jvm.MethodName)) ∈ lw_all := lw_g (lw_at lw_m5 143 rfl) rfl
theorem q1532 : (Jvm.Cond.selects "MirrorDoors$TextException" ({ cls := "java/lang/Object", name := "equals", desc := "(Ljava/lang/Object;)Z" } : Jvm.MethodName) ({ cls := "java/lang/Object", name := "equals", desc := "(Ljava/lang/Object;)Z" } : Jvm.MethodName)) ∈ lw_all := lw_g (lw_at lw_m6 222 rfl) rfl
theorem q2393 : (Jvm.Cond.castable "MirrorDoors$TextException" "java/lang/Object") ∈ lw_tbl := lw_at lw_m10 123 rfl
theorem in_X11 : ∀ w ∈ wsX110, w ∈ lw_all := lw_in wsX110 [892, 893, 894, 895, 896, 912, 908, 910] (by decide +kernel) (by decide +kernel)

/-! MirrorDoors$Gate -/
set_option maxRecDepth 100000
def RX12 : String := "MirrorDoors$Gate"
def TX12 : u_T := fun k => match k with
  | 0 => ("MirrorDoors$Cell", "at", "I", true)
  | _ => ("MirrorDoors$Gate", "direction", "I", true)
def tyX12 : Nat → FieldType := fun k => match k with
  | 0 => .int
  | _ => .int
abbrev wsX120 : List Cond := u_ws RX12 TX12 2
theorem nmX12 : ∀ a, a < 2 → ∀ b, b < 2 → a ≠ b → (TX12 a).2.1 ≠ (TX12 b).2.1 := by decide +kernel
theorem tyX12_ok : ∀ k, k < 2 → parseFieldDescriptor (TX12 k).2.2.1 = some (tyX12 k) := by decide +kernel
abbrev cX12_form : ByteArray := prog_5_method_5_code
def yX12_form : MethodName := ⟨RX12, "form", "()I"⟩
theorem dX12_form_0 : decode cX12_form 0 = .ok (.aload_n 0, 1) := by decide +kernel
theorem dX12_form_1 : decode cX12_form 1 = .ok (.getfield 7, 3) := by decide +kernel
theorem dX12_form_4 : decode cX12_form 4 = .ok (.ireturn, 1) := by decide +kernel
abbrev cX12_passes : ByteArray := prog_5_method_4_code
def yX12_passes : MethodName := ⟨RX12, "passes", "(ILMirrorDoors$Sink;)V"⟩
def dkwX12_passes_0 : List UInt8 := [27, 42, 180, 0, 7, 160, 0, 14, 44, 42, 180, 0, 13, 27, 185, 0, 16, 3, 0, 177]
abbrev dktX12_passes_0 : List UInt8 := dkwX12_passes_0 ++ []
theorem dksX12_passes_0 : cX12_passes.data.toList.drop 0 = dktX12_passes_0 := by decide +kernel
theorem dX12_passes_0 : decode cX12_passes 0 = .ok (.iload_n 1, 1) := dk_27 (dk_at dksX12_passes_0 0 rfl rfl)
theorem dX12_passes_1 : decode cX12_passes 1 = .ok (.aload_n 0, 1) := dk_42 (dk_at dksX12_passes_0 1 rfl rfl)
theorem dX12_passes_2 : decode cX12_passes 2 = .ok (.getfield 7, 3) := dk_180 0 7 (dk_at dksX12_passes_0 2 rfl rfl)
theorem dX12_passes_5 : decode cX12_passes 5 = .ok (.if_icmp .ne 14, 3) := dk_160 0 14 (dk_at dksX12_passes_0 5 rfl rfl)
theorem dX12_passes_8 : decode cX12_passes 8 = .ok (.aload_n 2, 1) := dk_44 (dk_at dksX12_passes_0 8 rfl rfl)
theorem dX12_passes_9 : decode cX12_passes 9 = .ok (.aload_n 0, 1) := dk_42 (dk_at dksX12_passes_0 9 rfl rfl)
theorem dX12_passes_10 : decode cX12_passes 10 = .ok (.getfield 13, 3) := dk_180 0 13 (dk_at dksX12_passes_0 10 rfl rfl)
theorem dX12_passes_13 : decode cX12_passes 13 = .ok (.iload_n 1, 1) := dk_27 (dk_at dksX12_passes_0 13 rfl rfl)
theorem dX12_passes_14 : decode cX12_passes 14 = .ok (.invokeinterface 16 3, 5) := by decide +kernel
theorem dX12_passes_19 : decode cX12_passes 19 = .ok (.return_, 1) := dk_177 (dk_at dksX12_passes_0 19 rfl rfl)
abbrev cX12_kind : ByteArray := prog_5_method_2_code
def yX12_kind : MethodName := ⟨RX12, "kind", "()I"⟩
theorem dX12_kind_0 : decode cX12_kind 0 = .ok (.iconst 5, 1) := by decide +kernel
theorem dX12_kind_1 : decode cX12_kind 1 = .ok (.ireturn, 1) := by decide +kernel
abbrev cX12_init : ByteArray := prog_5_method_1_code
def yX12_init : MethodName := ⟨RX12, "<init>", "(II)V"⟩
def dkwX12_init_0 : List UInt8 := [42, 27, 183, 0, 1, 42, 28, 181, 0, 7, 177]
abbrev dktX12_init_0 : List UInt8 := dkwX12_init_0 ++ []
theorem dksX12_init_0 : cX12_init.data.toList.drop 0 = dktX12_init_0 := by decide +kernel
theorem dX12_init_0 : decode cX12_init 0 = .ok (.aload_n 0, 1) := dk_42 (dk_at dksX12_init_0 0 rfl rfl)
theorem dX12_init_1 : decode cX12_init 1 = .ok (.iload_n 1, 1) := dk_27 (dk_at dksX12_init_0 1 rfl rfl)
theorem dX12_init_2 : decode cX12_init 2 = .ok (.invokespecial 1, 3) := dk_183 0 1 (dk_at dksX12_init_0 2 rfl rfl)
theorem dX12_init_5 : decode cX12_init 5 = .ok (.aload_n 0, 1) := dk_42 (dk_at dksX12_init_0 5 rfl rfl)
theorem dX12_init_6 : decode cX12_init 6 = .ok (.iload_n 2, 1) := dk_28 (dk_at dksX12_init_0 6 rfl rfl)
theorem dX12_init_7 : decode cX12_init 7 = .ok (.putfield 7, 3) := dk_181 0 7 (dk_at dksX12_init_0 7 rfl rfl)
theorem dX12_init_10 : decode cX12_init 10 = .ok (.return_, 1) := dk_177 (dk_at dksX12_init_0 10 rfl rfl)
abbrev cX12_twin : ByteArray := prog_5_method_3_code
def yX12_twin : MethodName := ⟨RX12, "twin", "()LMirrorDoors$Cell;"⟩
theorem dX12_twin_0 : decode cX12_twin 0 = .ok (.aload_n 0, 1) := by decide +kernel
theorem dX12_twin_1 : decode cX12_twin 1 = .ok (.areturn, 1) := by decide +kernel
theorem q140 : (Jvm.Cond.initialized "MirrorDoors$Gate") ∈ lw_all := lw_g (lw_at lw_m1 30 rfl) rfl
theorem q297 : (Jvm.Cond.fieldLink "MirrorDoors$Gate" (13 : Nat) "MirrorDoors$Gate" "at" "I") ∈ lw_all := lw_g (lw_at lw_m1 187 rfl) rfl
theorem q298 : (Jvm.Cond.sameField "MirrorDoors$Gate" "MirrorDoors$Cell" "at" "I") ∈ lw_all := lw_g (lw_at lw_m1 188 rfl) rfl
theorem q392 : (Jvm.Cond.selects "MirrorDoors$Gate" ({ cls := "MirrorDoors$Cell", name := "form", desc := "()I" } : Jvm.MethodName) ({ cls := "MirrorDoors$Gate", name := "form", desc := "()I" } : Jvm.MethodName)) ∈ lw_all := lw_g (lw_at lw_m2 42 rfl) rfl
theorem q393 : (Jvm.Cond.instanceMethod ({ cls := "MirrorDoors$Gate", name := "form", desc := "()I" } : Jvm.MethodName)) ∈ lw_all := lw_g (lw_at lw_m2 43 rfl) rfl
theorem q394 : (Jvm.Cond.code ({ cls := "MirrorDoors$Gate", name := "form", desc := "()I" } : Jvm.MethodName) prog_5_method_5_code (1 : Nat) (Option.some Jvm.ClassFile.FieldType.int)) ∈ lw_all := lw_g (lw_at lw_m2 44 rfl) rfl
theorem q445 : (Jvm.Cond.selects "MirrorDoors$Gate" ({ cls := "MirrorDoors$Cell", name := "passes", desc := "(ILMirrorDoors$Sink;)V" } : Jvm.MethodName) ({ cls := "MirrorDoors$Gate", name := "passes", desc := "(ILMirrorDoors$Sink;)V" } : Jvm.MethodName)) ∈ lw_all := lw_g (lw_at lw_m2 95 rfl) rfl
theorem q446 : (Jvm.Cond.instanceMethod ({ cls := "MirrorDoors$Gate", name := "passes", desc := "(ILMirrorDoors$Sink;)V" } : Jvm.MethodName)) ∈ lw_all := lw_g (lw_at lw_m2 96 rfl) rfl
theorem q447 : (Jvm.Cond.code ({ cls := "MirrorDoors$Gate", name := "passes", desc := "(ILMirrorDoors$Sink;)V" } : Jvm.MethodName) prog_5_method_4_code (3 : Nat) (Option.none : Option Jvm.ClassFile.FieldType)) ∈ lw_all := lw_g (lw_at lw_m2 97 rfl) rfl
theorem q448 : (Jvm.Cond.interfaceEntry "MirrorDoors$Gate" (16 : Nat)) ∈ lw_tbl := lw_at lw_m2 98 rfl
theorem q449 : (Jvm.Cond.methodLink "MirrorDoors$Gate" (16 : Nat) ({ cls := "MirrorDoors$Sink", name := "goes", desc := "(II)V" } : Jvm.MethodName)) ∈ lw_all := lw_g (lw_at lw_m2 99 rfl) rfl
theorem q1018 : (Jvm.Cond.selects "MirrorDoors$Gate" ({ cls := "MirrorDoors$Cell", name := "kind", desc := "()I" } : Jvm.MethodName) ({ cls := "MirrorDoors$Gate", name := "kind", desc := "()I" } : Jvm.MethodName)) ∈ lw_all := lw_g (lw_at lw_m4 188 rfl) rfl
theorem q1019 : (Jvm.Cond.instanceMethod ({ cls := "MirrorDoors$Gate", name := "kind", desc := "()I" } : Jvm.MethodName)) ∈ lw_all := lw_g (lw_at lw_m4 189 rfl) rfl
theorem q1020 : (Jvm.Cond.code ({ cls := "MirrorDoors$Gate", name := "kind", desc := "()I" } : Jvm.MethodName) prog_5_method_2_code (1 : Nat) (Option.some Jvm.ClassFile.FieldType.int)) ∈ lw_all := lw_g (lw_at lw_m4 190 rfl) rfl
theorem q1060 : (Jvm.Cond.instantiable "MirrorDoors$Gate" (2 : Nat)) ∈ lw_all := lw_g (lw_at lw_m4 230 rfl) rfl
theorem q1062 : (Jvm.Cond.instanceMethod ({ cls := "MirrorDoors$Gate", name := "<init>", desc := "(II)V" } : Jvm.MethodName)) ∈ lw_all := lw_g (lw_at lw_m4 232 rfl) rfl
theorem q1063 : (Jvm.Cond.code ({ cls := "MirrorDoors$Gate", name := "<init>", desc := "(II)V" } : Jvm.MethodName) prog_5_method_1_code (3 : Nat) (Option.none : Option Jvm.ClassFile.FieldType)) ∈ lw_all := lw_g (lw_at lw_m4 233 rfl) rfl
theorem q1064 : (Jvm.Cond.methodLink "MirrorDoors$Gate" (1 : Nat) ({ cls := "MirrorDoors$Cell", name := "<init>", desc := "(I)V" } : Jvm.MethodName)) ∈ lw_all := lw_g (lw_at lw_m4 234 rfl) rfl
theorem q1065 : (Jvm.Cond.fieldLink "MirrorDoors$Gate" (7 : Nat) "MirrorDoors$Gate" "direction" "I") ∈ lw_all := lw_g (lw_at lw_m4 235 rfl) rfl
theorem q1066 : (Jvm.Cond.laysFinal "MirrorDoors$Gate" "MirrorDoors$Gate" "direction" "I") ∈ lw_all := lw_g (lw_at lw_m4 236 rfl) rfl
theorem q1067 : (Jvm.Cond.soleField "MirrorDoors$Gate" "direction") ∈ lw_all := lw_g (lw_at lw_m4 237 rfl) rfl
theorem q1068 : (Jvm.Cond.laysFinal "MirrorDoors$Gate" "MirrorDoors$Cell" "at" "I") ∈ lw_all := lw_g (lw_at lw_m4 238 rfl) rfl
theorem q1069 : (Jvm.Cond.superclass "MirrorDoors$Gate" "MirrorDoors$Cell") ∈ lw_all := lw_g (lw_at lw_m4 239 rfl) rfl
theorem q1113 : (Jvm.Cond.selects "MirrorDoors$Gate" ({ cls := "MirrorDoors$Cell", name := "owner", desc := "()I" } : Jvm.MethodName) ({ cls := "MirrorDoors$Cell", name := "owner", desc := "()I" } : Jvm.MethodName)) ∈ lw_all := lw_g (lw_at lw_m5 43 rfl) rfl
theorem q1207 : (Jvm.Cond.selects "MirrorDoors$Gate" ({ cls := "java/lang/Object", name := "getClass", desc := "()Ljava/lang/Class;" } : Jvm.MethodName) ({ cls := "java/lang/Object", name := "getClass", desc := "()Ljava/lang/Class;" } : Jvm.MethodName)) ∈ lw_all := lw_g (lw_at lw_m5 137 rfl) rfl
theorem q1314 : (Jvm.Cond.selects "MirrorDoors$Gate" ({ cls := "MirrorDoors$Cell", name := "twin", desc := "()LMirrorDoors$Cell;" } : Jvm.MethodName) ({ cls := "MirrorDoors$Gate", name := "twin", desc := "()LMirrorDoors$Cell;" } : Jvm.MethodName)) ∈ lw_all := lw_g (lw_at lw_m6 4 rfl) rfl
theorem q1315 : (Jvm.Cond.instanceMethod ({ cls := "MirrorDoors$Gate", name := "twin", desc := "()LMirrorDoors$Cell;" } : Jvm.MethodName)) ∈ lw_all := lw_g (lw_at lw_m6 5 rfl) rfl
theorem q1316 : (Jvm.Cond.code ({ cls := "MirrorDoors$Gate", name := "twin", desc := "()LMirrorDoors$Cell;" } : Jvm.MethodName) prog_5_method_3_code (1 : Nat) (Option.some (Jvm.ClassFile.FieldType.object "MirrorDoors$Cell"))) ∈ lw_all := lw_g (lw_at lw_m6 6 rfl) rfl
theorem q1526 : (Jvm.Cond.selects "MirrorDoors$Gate" ({ cls := "java/lang/Object", name := "equals", desc := "(Ljava/lang/Object;)Z" } : Jvm.MethodName) ({ cls := "java/lang/Object", name := "equals", desc := "(Ljava/lang/Object;)Z" } : Jvm.MethodName)) ∈ lw_all := lw_g (lw_at lw_m6 216 rfl) rfl
theorem q2375 : (Jvm.Cond.castable "MirrorDoors$Gate" "MirrorDoors$Cell") ∈ lw_tbl := lw_at lw_m10 105 rfl
theorem q2395 : (Jvm.Cond.castable "MirrorDoors$Gate" "java/lang/Object") ∈ lw_tbl := lw_at lw_m10 125 rfl
theorem in_X12 : ∀ w ∈ wsX120, w ∈ lw_all := lw_in wsX120 [1068, 1066] (by decide +kernel) (by decide +kernel)

/-! MirrorDoors$Portal -/
set_option maxRecDepth 100000
def RX13 : String := "MirrorDoors$Portal"
def TX13 : u_T := fun k => match k with
  | 0 => ("MirrorDoors$Cell", "at", "I", true)
  | _ => ("MirrorDoors$Portal", "other", "I", true)
def tyX13 : Nat → FieldType := fun k => match k with
  | 0 => .int
  | _ => .int
abbrev wsX130 : List Cond := u_ws RX13 TX13 2
theorem nmX13 : ∀ a, a < 2 → ∀ b, b < 2 → a ≠ b → (TX13 a).2.1 ≠ (TX13 b).2.1 := by decide +kernel
theorem tyX13_ok : ∀ k, k < 2 → parseFieldDescriptor (TX13 k).2.2.1 = some (tyX13 k) := by decide +kernel
abbrev cX13_form : ByteArray := prog_7_method_5_code
def yX13_form : MethodName := ⟨RX13, "form", "()I"⟩
theorem dX13_form_0 : decode cX13_form 0 = .ok (.aload_n 0, 1) := by decide +kernel
theorem dX13_form_1 : decode cX13_form 1 = .ok (.getfield 7, 3) := by decide +kernel
theorem dX13_form_4 : decode cX13_form 4 = .ok (.ireturn, 1) := by decide +kernel
abbrev cX13_passes : ByteArray := prog_7_method_4_code
def yX13_passes : MethodName := ⟨RX13, "passes", "(ILMirrorDoors$Sink;)V"⟩
def dkwX13_passes_0 : List UInt8 := [44, 42, 180, 0, 7, 27, 185, 0, 13, 3, 0, 177]
abbrev dktX13_passes_0 : List UInt8 := dkwX13_passes_0 ++ []
theorem dksX13_passes_0 : cX13_passes.data.toList.drop 0 = dktX13_passes_0 := by decide +kernel
theorem dX13_passes_0 : decode cX13_passes 0 = .ok (.aload_n 2, 1) := dk_44 (dk_at dksX13_passes_0 0 rfl rfl)
theorem dX13_passes_1 : decode cX13_passes 1 = .ok (.aload_n 0, 1) := dk_42 (dk_at dksX13_passes_0 1 rfl rfl)
theorem dX13_passes_2 : decode cX13_passes 2 = .ok (.getfield 7, 3) := dk_180 0 7 (dk_at dksX13_passes_0 2 rfl rfl)
theorem dX13_passes_5 : decode cX13_passes 5 = .ok (.iload_n 1, 1) := dk_27 (dk_at dksX13_passes_0 5 rfl rfl)
theorem dX13_passes_6 : decode cX13_passes 6 = .ok (.invokeinterface 13 3, 5) := by decide +kernel
theorem dX13_passes_11 : decode cX13_passes 11 = .ok (.return_, 1) := dk_177 (dk_at dksX13_passes_0 11 rfl rfl)
abbrev cX13_kind : ByteArray := prog_7_method_2_code
def yX13_kind : MethodName := ⟨RX13, "kind", "()I"⟩
theorem dX13_kind_0 : decode cX13_kind 0 = .ok (.bipush 6, 2) := by decide +kernel
theorem dX13_kind_2 : decode cX13_kind 2 = .ok (.ireturn, 1) := by decide +kernel
abbrev cX13_init : ByteArray := prog_7_method_1_code
def yX13_init : MethodName := ⟨RX13, "<init>", "(II)V"⟩
def dkwX13_init_0 : List UInt8 := [42, 27, 183, 0, 1, 42, 28, 181, 0, 7, 177]
abbrev dktX13_init_0 : List UInt8 := dkwX13_init_0 ++ []
theorem dksX13_init_0 : cX13_init.data.toList.drop 0 = dktX13_init_0 := by decide +kernel
theorem dX13_init_0 : decode cX13_init 0 = .ok (.aload_n 0, 1) := dk_42 (dk_at dksX13_init_0 0 rfl rfl)
theorem dX13_init_1 : decode cX13_init 1 = .ok (.iload_n 1, 1) := dk_27 (dk_at dksX13_init_0 1 rfl rfl)
theorem dX13_init_2 : decode cX13_init 2 = .ok (.invokespecial 1, 3) := dk_183 0 1 (dk_at dksX13_init_0 2 rfl rfl)
theorem dX13_init_5 : decode cX13_init 5 = .ok (.aload_n 0, 1) := dk_42 (dk_at dksX13_init_0 5 rfl rfl)
theorem dX13_init_6 : decode cX13_init 6 = .ok (.iload_n 2, 1) := dk_28 (dk_at dksX13_init_0 6 rfl rfl)
theorem dX13_init_7 : decode cX13_init 7 = .ok (.putfield 7, 3) := dk_181 0 7 (dk_at dksX13_init_0 7 rfl rfl)
theorem dX13_init_10 : decode cX13_init 10 = .ok (.return_, 1) := dk_177 (dk_at dksX13_init_0 10 rfl rfl)
abbrev cX13_twin : ByteArray := prog_7_method_3_code
def yX13_twin : MethodName := ⟨RX13, "twin", "()LMirrorDoors$Cell;"⟩
theorem dX13_twin_0 : decode cX13_twin 0 = .ok (.aload_n 0, 1) := by decide +kernel
theorem dX13_twin_1 : decode cX13_twin 1 = .ok (.areturn, 1) := by decide +kernel
theorem q141 : (Jvm.Cond.initialized "MirrorDoors$Portal") ∈ lw_all := lw_g (lw_at lw_m1 31 rfl) rfl
theorem q398 : (Jvm.Cond.selects "MirrorDoors$Portal" ({ cls := "MirrorDoors$Cell", name := "form", desc := "()I" } : Jvm.MethodName) ({ cls := "MirrorDoors$Portal", name := "form", desc := "()I" } : Jvm.MethodName)) ∈ lw_all := lw_g (lw_at lw_m2 48 rfl) rfl
theorem q399 : (Jvm.Cond.instanceMethod ({ cls := "MirrorDoors$Portal", name := "form", desc := "()I" } : Jvm.MethodName)) ∈ lw_all := lw_g (lw_at lw_m2 49 rfl) rfl
theorem q400 : (Jvm.Cond.code ({ cls := "MirrorDoors$Portal", name := "form", desc := "()I" } : Jvm.MethodName) prog_7_method_5_code (1 : Nat) (Option.some Jvm.ClassFile.FieldType.int)) ∈ lw_all := lw_g (lw_at lw_m2 50 rfl) rfl
theorem q455 : (Jvm.Cond.selects "MirrorDoors$Portal" ({ cls := "MirrorDoors$Cell", name := "passes", desc := "(ILMirrorDoors$Sink;)V" } : Jvm.MethodName) ({ cls := "MirrorDoors$Portal", name := "passes", desc := "(ILMirrorDoors$Sink;)V" } : Jvm.MethodName)) ∈ lw_all := lw_g (lw_at lw_m2 105 rfl) rfl
theorem q456 : (Jvm.Cond.instanceMethod ({ cls := "MirrorDoors$Portal", name := "passes", desc := "(ILMirrorDoors$Sink;)V" } : Jvm.MethodName)) ∈ lw_all := lw_g (lw_at lw_m2 106 rfl) rfl
theorem q457 : (Jvm.Cond.code ({ cls := "MirrorDoors$Portal", name := "passes", desc := "(ILMirrorDoors$Sink;)V" } : Jvm.MethodName) prog_7_method_4_code (3 : Nat) (Option.none : Option Jvm.ClassFile.FieldType)) ∈ lw_all := lw_g (lw_at lw_m2 107 rfl) rfl
theorem q458 : (Jvm.Cond.interfaceEntry "MirrorDoors$Portal" (13 : Nat)) ∈ lw_tbl := lw_at lw_m2 108 rfl
theorem q459 : (Jvm.Cond.methodLink "MirrorDoors$Portal" (13 : Nat) ({ cls := "MirrorDoors$Sink", name := "goes", desc := "(II)V" } : Jvm.MethodName)) ∈ lw_all := lw_g (lw_at lw_m2 109 rfl) rfl
theorem q1024 : (Jvm.Cond.selects "MirrorDoors$Portal" ({ cls := "MirrorDoors$Cell", name := "kind", desc := "()I" } : Jvm.MethodName) ({ cls := "MirrorDoors$Portal", name := "kind", desc := "()I" } : Jvm.MethodName)) ∈ lw_all := lw_g (lw_at lw_m4 194 rfl) rfl
theorem q1025 : (Jvm.Cond.instanceMethod ({ cls := "MirrorDoors$Portal", name := "kind", desc := "()I" } : Jvm.MethodName)) ∈ lw_all := lw_g (lw_at lw_m4 195 rfl) rfl
theorem q1026 : (Jvm.Cond.code ({ cls := "MirrorDoors$Portal", name := "kind", desc := "()I" } : Jvm.MethodName) prog_7_method_2_code (1 : Nat) (Option.some Jvm.ClassFile.FieldType.int)) ∈ lw_all := lw_g (lw_at lw_m4 196 rfl) rfl
theorem q1075 : (Jvm.Cond.instantiable "MirrorDoors$Portal" (2 : Nat)) ∈ lw_all := lw_g (lw_at lw_m5 5 rfl) rfl
theorem q1077 : (Jvm.Cond.instanceMethod ({ cls := "MirrorDoors$Portal", name := "<init>", desc := "(II)V" } : Jvm.MethodName)) ∈ lw_all := lw_g (lw_at lw_m5 7 rfl) rfl
theorem q1078 : (Jvm.Cond.code ({ cls := "MirrorDoors$Portal", name := "<init>", desc := "(II)V" } : Jvm.MethodName) prog_7_method_1_code (3 : Nat) (Option.none : Option Jvm.ClassFile.FieldType)) ∈ lw_all := lw_g (lw_at lw_m5 8 rfl) rfl
theorem q1079 : (Jvm.Cond.methodLink "MirrorDoors$Portal" (1 : Nat) ({ cls := "MirrorDoors$Cell", name := "<init>", desc := "(I)V" } : Jvm.MethodName)) ∈ lw_all := lw_g (lw_at lw_m5 9 rfl) rfl
theorem q1080 : (Jvm.Cond.fieldLink "MirrorDoors$Portal" (7 : Nat) "MirrorDoors$Portal" "other" "I") ∈ lw_all := lw_g (lw_at lw_m5 10 rfl) rfl
theorem q1081 : (Jvm.Cond.laysFinal "MirrorDoors$Portal" "MirrorDoors$Portal" "other" "I") ∈ lw_all := lw_g (lw_at lw_m5 11 rfl) rfl
theorem q1082 : (Jvm.Cond.soleField "MirrorDoors$Portal" "other") ∈ lw_all := lw_g (lw_at lw_m5 12 rfl) rfl
theorem q1083 : (Jvm.Cond.laysFinal "MirrorDoors$Portal" "MirrorDoors$Cell" "at" "I") ∈ lw_all := lw_g (lw_at lw_m5 13 rfl) rfl
theorem q1084 : (Jvm.Cond.superclass "MirrorDoors$Portal" "MirrorDoors$Cell") ∈ lw_all := lw_g (lw_at lw_m5 14 rfl) rfl
theorem q1117 : (Jvm.Cond.selects "MirrorDoors$Portal" ({ cls := "MirrorDoors$Cell", name := "owner", desc := "()I" } : Jvm.MethodName) ({ cls := "MirrorDoors$Cell", name := "owner", desc := "()I" } : Jvm.MethodName)) ∈ lw_all := lw_g (lw_at lw_m5 47 rfl) rfl
theorem q1209 : (Jvm.Cond.selects "MirrorDoors$Portal" ({ cls := "java/lang/Object", name := "getClass", desc := "()Ljava/lang/Class;" } : Jvm.MethodName) ({ cls := "java/lang/Object", name := "getClass", desc := "()Ljava/lang/Class;" } : Jvm.MethodName)) ∈ lw_all := lw_g (lw_at lw_m5 139 rfl) rfl
theorem q1322 : (Jvm.Cond.selects "MirrorDoors$Portal" ({ cls := "MirrorDoors$Cell", name := "twin", desc := "()LMirrorDoors$Cell;" } : Jvm.MethodName) ({ cls := "MirrorDoors$Portal", name := "twin", desc := "()LMirrorDoors$Cell;" } : Jvm.MethodName)) ∈ lw_all := lw_g (lw_at lw_m6 12 rfl) rfl
theorem q1323 : (Jvm.Cond.instanceMethod ({ cls := "MirrorDoors$Portal", name := "twin", desc := "()LMirrorDoors$Cell;" } : Jvm.MethodName)) ∈ lw_all := lw_g (lw_at lw_m6 13 rfl) rfl
theorem q1324 : (Jvm.Cond.code ({ cls := "MirrorDoors$Portal", name := "twin", desc := "()LMirrorDoors$Cell;" } : Jvm.MethodName) prog_7_method_3_code (1 : Nat) (Option.some (Jvm.ClassFile.FieldType.object "MirrorDoors$Cell"))) ∈ lw_all := lw_g (lw_at lw_m6 14 rfl) rfl
theorem q1528 : (Jvm.Cond.selects "MirrorDoors$Portal" ({ cls := "java/lang/Object", name := "equals", desc := "(Ljava/lang/Object;)Z" } : Jvm.MethodName) ({ cls := "java/lang/Object", name := "equals", desc := "(Ljava/lang/Object;)Z" } : Jvm.MethodName)) ∈ lw_all := lw_g (lw_at lw_m6 218 rfl) rfl
theorem q2377 : (Jvm.Cond.castable "MirrorDoors$Portal" "MirrorDoors$Cell") ∈ lw_tbl := lw_at lw_m10 107 rfl
theorem q2396 : (Jvm.Cond.castable "MirrorDoors$Portal" "java/lang/Object") ∈ lw_tbl := lw_at lw_m10 126 rfl
theorem in_X13 : ∀ w ∈ wsX130, w ∈ lw_all := lw_in wsX130 [1083, 1081] (by decide +kernel) (by decide +kernel)

/-! MirrorDoorsLaw -/
set_option maxRecDepth 100000
def RX0 : String := "MirrorDoorsLaw"
abbrev cX0_putWall : ByteArray := method_3_code
def yX0_putWall : MethodName := ⟨RX0, "putWall", "(LMirrorDoors;II[J)I"⟩
def dkwX0_putWall_0 : List UInt8 := [45, 3, 42, 27, 28, 182, 0, 7, 133, 80, 167, 0, 7, 58, 4, 4, 172, 3, 172]
abbrev dktX0_putWall_0 : List UInt8 := dkwX0_putWall_0 ++ []
theorem dksX0_putWall_0 : cX0_putWall.data.toList.drop 0 = dktX0_putWall_0 := by decide +kernel
theorem dX0_putWall_0 : decode cX0_putWall 0 = .ok (.aload_n 3, 1) := dk_45 (dk_at dksX0_putWall_0 0 rfl rfl)
theorem dX0_putWall_1 : decode cX0_putWall 1 = .ok (.iconst 0, 1) := dk_3 (dk_at dksX0_putWall_0 1 rfl rfl)
theorem dX0_putWall_2 : decode cX0_putWall 2 = .ok (.aload_n 0, 1) := dk_42 (dk_at dksX0_putWall_0 2 rfl rfl)
theorem dX0_putWall_3 : decode cX0_putWall 3 = .ok (.iload_n 1, 1) := dk_27 (dk_at dksX0_putWall_0 3 rfl rfl)
theorem dX0_putWall_4 : decode cX0_putWall 4 = .ok (.iload_n 2, 1) := dk_28 (dk_at dksX0_putWall_0 4 rfl rfl)
theorem dX0_putWall_5 : decode cX0_putWall 5 = .ok (.invokevirtual 7, 3) := dk_182 0 7 (dk_at dksX0_putWall_0 5 rfl rfl)
theorem dX0_putWall_8 : decode cX0_putWall 8 = .ok (.i2l, 1) := dk_133 (dk_at dksX0_putWall_0 8 rfl rfl)
theorem dX0_putWall_9 : decode cX0_putWall 9 = .ok (.lastore, 1) := dk_80 (dk_at dksX0_putWall_0 9 rfl rfl)
theorem dX0_putWall_10 : decode cX0_putWall 10 = .ok (.goto 7, 3) := dk_167 0 7 (dk_at dksX0_putWall_0 10 rfl rfl)
theorem dX0_putWall_13 : decode cX0_putWall 13 = .ok (.astore 4, 2) := dk_58 4 (dk_at dksX0_putWall_0 13 rfl rfl)
theorem dX0_putWall_15 : decode cX0_putWall 15 = .ok (.iconst 1, 1) := dk_4 (dk_at dksX0_putWall_0 15 rfl rfl)
theorem dX0_putWall_16 : decode cX0_putWall 16 = .ok (.ireturn, 1) := dk_172 (dk_at dksX0_putWall_0 16 rfl rfl)
theorem dX0_putWall_17 : decode cX0_putWall 17 = .ok (.iconst 0, 1) := dk_3 (dk_at dksX0_putWall_0 17 rfl rfl)
theorem dX0_putWall_18 : decode cX0_putWall 18 = .ok (.ireturn, 1) := dk_172 (dk_at dksX0_putWall_0 18 rfl rfl)
abbrev cX0_putMirror : ByteArray := method_4_code
def yX0_putMirror : MethodName := ⟨RX0, "putMirror", "(LMirrorDoors;IIZII[J)I"⟩
def dkwX0_putMirror_1 : List UInt8 := [58, 7, 5, 172, 3, 172]
abbrev dktX0_putMirror_1 : List UInt8 := dkwX0_putMirror_1 ++ []
def dkwX0_putMirror_0 : List UInt8 := [25, 6, 3, 42, 27, 28, 29, 21, 4, 21, 5, 182, 0, 15, 133, 80, 167, 0, 11, 58, 7, 4, 172]
abbrev dktX0_putMirror_0 : List UInt8 := dkwX0_putMirror_0 ++ dktX0_putMirror_1
theorem dksX0_putMirror_0 : cX0_putMirror.data.toList.drop 0 = dktX0_putMirror_0 := by decide +kernel
theorem dksX0_putMirror_1 : cX0_putMirror.data.toList.drop 23 = dktX0_putMirror_1 := dk_seg dksX0_putMirror_0 23 rfl rfl
theorem dX0_putMirror_0 : decode cX0_putMirror 0 = .ok (.aload 6, 2) := dk_25 6 (dk_at dksX0_putMirror_0 0 rfl rfl)
theorem dX0_putMirror_2 : decode cX0_putMirror 2 = .ok (.iconst 0, 1) := dk_3 (dk_at dksX0_putMirror_0 2 rfl rfl)
theorem dX0_putMirror_3 : decode cX0_putMirror 3 = .ok (.aload_n 0, 1) := dk_42 (dk_at dksX0_putMirror_0 3 rfl rfl)
theorem dX0_putMirror_4 : decode cX0_putMirror 4 = .ok (.iload_n 1, 1) := dk_27 (dk_at dksX0_putMirror_0 4 rfl rfl)
theorem dX0_putMirror_5 : decode cX0_putMirror 5 = .ok (.iload_n 2, 1) := dk_28 (dk_at dksX0_putMirror_0 5 rfl rfl)
theorem dX0_putMirror_6 : decode cX0_putMirror 6 = .ok (.iload_n 3, 1) := dk_29 (dk_at dksX0_putMirror_0 6 rfl rfl)
theorem dX0_putMirror_7 : decode cX0_putMirror 7 = .ok (.iload 4, 2) := dk_21 4 (dk_at dksX0_putMirror_0 7 rfl rfl)
theorem dX0_putMirror_9 : decode cX0_putMirror 9 = .ok (.iload 5, 2) := dk_21 5 (dk_at dksX0_putMirror_0 9 rfl rfl)
theorem dX0_putMirror_11 : decode cX0_putMirror 11 = .ok (.invokevirtual 15, 3) := dk_182 0 15 (dk_at dksX0_putMirror_0 11 rfl rfl)
theorem dX0_putMirror_14 : decode cX0_putMirror 14 = .ok (.i2l, 1) := dk_133 (dk_at dksX0_putMirror_0 14 rfl rfl)
theorem dX0_putMirror_15 : decode cX0_putMirror 15 = .ok (.lastore, 1) := dk_80 (dk_at dksX0_putMirror_0 15 rfl rfl)
theorem dX0_putMirror_16 : decode cX0_putMirror 16 = .ok (.goto 11, 3) := dk_167 0 11 (dk_at dksX0_putMirror_0 16 rfl rfl)
theorem dX0_putMirror_19 : decode cX0_putMirror 19 = .ok (.astore 7, 2) := dk_58 7 (dk_at dksX0_putMirror_0 19 rfl rfl)
theorem dX0_putMirror_21 : decode cX0_putMirror 21 = .ok (.iconst 1, 1) := dk_4 (dk_at dksX0_putMirror_0 21 rfl rfl)
theorem dX0_putMirror_22 : decode cX0_putMirror 22 = .ok (.ireturn, 1) := dk_172 (dk_at dksX0_putMirror_0 22 rfl rfl)
theorem dX0_putMirror_23 : decode cX0_putMirror 23 = .ok (.astore 7, 2) := dk_58 7 (dk_at dksX0_putMirror_1 0 rfl rfl)
theorem dX0_putMirror_25 : decode cX0_putMirror 25 = .ok (.iconst 2, 1) := dk_5 (dk_at dksX0_putMirror_1 2 rfl rfl)
theorem dX0_putMirror_26 : decode cX0_putMirror 26 = .ok (.ireturn, 1) := dk_172 (dk_at dksX0_putMirror_1 3 rfl rfl)
theorem dX0_putMirror_27 : decode cX0_putMirror 27 = .ok (.iconst 0, 1) := dk_3 (dk_at dksX0_putMirror_1 4 rfl rfl)
theorem dX0_putMirror_28 : decode cX0_putMirror 28 = .ok (.ireturn, 1) := dk_172 (dk_at dksX0_putMirror_1 5 rfl rfl)
abbrev cX0_putDoor : ByteArray := method_5_code
def yX0_putDoor : MethodName := ⟨RX0, "putDoor", "(LMirrorDoors;III[J)I"⟩
def dkwX0_putDoor_1 : List UInt8 := [172]
abbrev dktX0_putDoor_1 : List UInt8 := dkwX0_putDoor_1 ++ []
def dkwX0_putDoor_0 : List UInt8 := [25, 4, 3, 42, 27, 28, 29, 182, 0, 21, 133, 80, 167, 0, 11, 58, 5, 4, 172, 58, 5, 5, 172, 3]
abbrev dktX0_putDoor_0 : List UInt8 := dkwX0_putDoor_0 ++ dktX0_putDoor_1
theorem dksX0_putDoor_0 : cX0_putDoor.data.toList.drop 0 = dktX0_putDoor_0 := by decide +kernel
theorem dksX0_putDoor_1 : cX0_putDoor.data.toList.drop 24 = dktX0_putDoor_1 := dk_seg dksX0_putDoor_0 24 rfl rfl
theorem dX0_putDoor_0 : decode cX0_putDoor 0 = .ok (.aload 4, 2) := dk_25 4 (dk_at dksX0_putDoor_0 0 rfl rfl)
theorem dX0_putDoor_2 : decode cX0_putDoor 2 = .ok (.iconst 0, 1) := dk_3 (dk_at dksX0_putDoor_0 2 rfl rfl)
theorem dX0_putDoor_3 : decode cX0_putDoor 3 = .ok (.aload_n 0, 1) := dk_42 (dk_at dksX0_putDoor_0 3 rfl rfl)
theorem dX0_putDoor_4 : decode cX0_putDoor 4 = .ok (.iload_n 1, 1) := dk_27 (dk_at dksX0_putDoor_0 4 rfl rfl)
theorem dX0_putDoor_5 : decode cX0_putDoor 5 = .ok (.iload_n 2, 1) := dk_28 (dk_at dksX0_putDoor_0 5 rfl rfl)
theorem dX0_putDoor_6 : decode cX0_putDoor 6 = .ok (.iload_n 3, 1) := dk_29 (dk_at dksX0_putDoor_0 6 rfl rfl)
theorem dX0_putDoor_7 : decode cX0_putDoor 7 = .ok (.invokevirtual 21, 3) := dk_182 0 21 (dk_at dksX0_putDoor_0 7 rfl rfl)
theorem dX0_putDoor_10 : decode cX0_putDoor 10 = .ok (.i2l, 1) := dk_133 (dk_at dksX0_putDoor_0 10 rfl rfl)
theorem dX0_putDoor_11 : decode cX0_putDoor 11 = .ok (.lastore, 1) := dk_80 (dk_at dksX0_putDoor_0 11 rfl rfl)
theorem dX0_putDoor_12 : decode cX0_putDoor 12 = .ok (.goto 11, 3) := dk_167 0 11 (dk_at dksX0_putDoor_0 12 rfl rfl)
theorem dX0_putDoor_15 : decode cX0_putDoor 15 = .ok (.astore 5, 2) := dk_58 5 (dk_at dksX0_putDoor_0 15 rfl rfl)
theorem dX0_putDoor_17 : decode cX0_putDoor 17 = .ok (.iconst 1, 1) := dk_4 (dk_at dksX0_putDoor_0 17 rfl rfl)
theorem dX0_putDoor_18 : decode cX0_putDoor 18 = .ok (.ireturn, 1) := dk_172 (dk_at dksX0_putDoor_0 18 rfl rfl)
theorem dX0_putDoor_19 : decode cX0_putDoor 19 = .ok (.astore 5, 2) := dk_58 5 (dk_at dksX0_putDoor_0 19 rfl rfl)
theorem dX0_putDoor_21 : decode cX0_putDoor 21 = .ok (.iconst 2, 1) := dk_5 (dk_at dksX0_putDoor_0 21 rfl rfl)
theorem dX0_putDoor_22 : decode cX0_putDoor 22 = .ok (.ireturn, 1) := dk_172 (dk_at dksX0_putDoor_0 22 rfl rfl)
theorem dX0_putDoor_23 : decode cX0_putDoor 23 = .ok (.iconst 0, 1) := dk_3 (dk_at dksX0_putDoor_0 23 rfl rfl)
theorem dX0_putDoor_24 : decode cX0_putDoor 24 = .ok (.ireturn, 1) := dk_172 (dk_at dksX0_putDoor_1 0 rfl rfl)
abbrev cX0_putGate : ByteArray := method_6_code
def yX0_putGate : MethodName := ⟨RX0, "putGate", "(LMirrorDoors;III[J)I"⟩
def dkwX0_putGate_1 : List UInt8 := [172]
abbrev dktX0_putGate_1 : List UInt8 := dkwX0_putGate_1 ++ []
def dkwX0_putGate_0 : List UInt8 := [25, 4, 3, 42, 27, 28, 29, 182, 0, 25, 133, 80, 167, 0, 11, 58, 5, 4, 172, 58, 5, 5, 172, 3]
abbrev dktX0_putGate_0 : List UInt8 := dkwX0_putGate_0 ++ dktX0_putGate_1
theorem dksX0_putGate_0 : cX0_putGate.data.toList.drop 0 = dktX0_putGate_0 := by decide +kernel
theorem dksX0_putGate_1 : cX0_putGate.data.toList.drop 24 = dktX0_putGate_1 := dk_seg dksX0_putGate_0 24 rfl rfl
theorem dX0_putGate_0 : decode cX0_putGate 0 = .ok (.aload 4, 2) := dk_25 4 (dk_at dksX0_putGate_0 0 rfl rfl)
theorem dX0_putGate_2 : decode cX0_putGate 2 = .ok (.iconst 0, 1) := dk_3 (dk_at dksX0_putGate_0 2 rfl rfl)
theorem dX0_putGate_3 : decode cX0_putGate 3 = .ok (.aload_n 0, 1) := dk_42 (dk_at dksX0_putGate_0 3 rfl rfl)
theorem dX0_putGate_4 : decode cX0_putGate 4 = .ok (.iload_n 1, 1) := dk_27 (dk_at dksX0_putGate_0 4 rfl rfl)
theorem dX0_putGate_5 : decode cX0_putGate 5 = .ok (.iload_n 2, 1) := dk_28 (dk_at dksX0_putGate_0 5 rfl rfl)
theorem dX0_putGate_6 : decode cX0_putGate 6 = .ok (.iload_n 3, 1) := dk_29 (dk_at dksX0_putGate_0 6 rfl rfl)
theorem dX0_putGate_7 : decode cX0_putGate 7 = .ok (.invokevirtual 25, 3) := dk_182 0 25 (dk_at dksX0_putGate_0 7 rfl rfl)
theorem dX0_putGate_10 : decode cX0_putGate 10 = .ok (.i2l, 1) := dk_133 (dk_at dksX0_putGate_0 10 rfl rfl)
theorem dX0_putGate_11 : decode cX0_putGate 11 = .ok (.lastore, 1) := dk_80 (dk_at dksX0_putGate_0 11 rfl rfl)
theorem dX0_putGate_12 : decode cX0_putGate 12 = .ok (.goto 11, 3) := dk_167 0 11 (dk_at dksX0_putGate_0 12 rfl rfl)
theorem dX0_putGate_15 : decode cX0_putGate 15 = .ok (.astore 5, 2) := dk_58 5 (dk_at dksX0_putGate_0 15 rfl rfl)
theorem dX0_putGate_17 : decode cX0_putGate 17 = .ok (.iconst 1, 1) := dk_4 (dk_at dksX0_putGate_0 17 rfl rfl)
theorem dX0_putGate_18 : decode cX0_putGate 18 = .ok (.ireturn, 1) := dk_172 (dk_at dksX0_putGate_0 18 rfl rfl)
theorem dX0_putGate_19 : decode cX0_putGate 19 = .ok (.astore 5, 2) := dk_58 5 (dk_at dksX0_putGate_0 19 rfl rfl)
theorem dX0_putGate_21 : decode cX0_putGate 21 = .ok (.iconst 2, 1) := dk_5 (dk_at dksX0_putGate_0 21 rfl rfl)
theorem dX0_putGate_22 : decode cX0_putGate 22 = .ok (.ireturn, 1) := dk_172 (dk_at dksX0_putGate_0 22 rfl rfl)
theorem dX0_putGate_23 : decode cX0_putGate 23 = .ok (.iconst 0, 1) := dk_3 (dk_at dksX0_putGate_0 23 rfl rfl)
theorem dX0_putGate_24 : decode cX0_putGate 24 = .ok (.ireturn, 1) := dk_172 (dk_at dksX0_putGate_1 0 rfl rfl)
abbrev cX0_putPortals : ByteArray := method_7_code
def yX0_putPortals : MethodName := ⟨RX0, "putPortals", "(LMirrorDoors;IIII[J)I"⟩
def dkwX0_putPortals_1 : List UInt8 := [172, 3, 172]
abbrev dktX0_putPortals_1 : List UInt8 := dkwX0_putPortals_1 ++ []
def dkwX0_putPortals_0 : List UInt8 := [25, 5, 3, 42, 27, 28, 29, 21, 4, 182, 0, 28, 133, 80, 167, 0, 11, 58, 6, 4, 172, 58, 6, 5]
abbrev dktX0_putPortals_0 : List UInt8 := dkwX0_putPortals_0 ++ dktX0_putPortals_1
theorem dksX0_putPortals_0 : cX0_putPortals.data.toList.drop 0 = dktX0_putPortals_0 := by decide +kernel
theorem dksX0_putPortals_1 : cX0_putPortals.data.toList.drop 24 = dktX0_putPortals_1 := dk_seg dksX0_putPortals_0 24 rfl rfl
theorem dX0_putPortals_0 : decode cX0_putPortals 0 = .ok (.aload 5, 2) := dk_25 5 (dk_at dksX0_putPortals_0 0 rfl rfl)
theorem dX0_putPortals_2 : decode cX0_putPortals 2 = .ok (.iconst 0, 1) := dk_3 (dk_at dksX0_putPortals_0 2 rfl rfl)
theorem dX0_putPortals_3 : decode cX0_putPortals 3 = .ok (.aload_n 0, 1) := dk_42 (dk_at dksX0_putPortals_0 3 rfl rfl)
theorem dX0_putPortals_4 : decode cX0_putPortals 4 = .ok (.iload_n 1, 1) := dk_27 (dk_at dksX0_putPortals_0 4 rfl rfl)
theorem dX0_putPortals_5 : decode cX0_putPortals 5 = .ok (.iload_n 2, 1) := dk_28 (dk_at dksX0_putPortals_0 5 rfl rfl)
theorem dX0_putPortals_6 : decode cX0_putPortals 6 = .ok (.iload_n 3, 1) := dk_29 (dk_at dksX0_putPortals_0 6 rfl rfl)
theorem dX0_putPortals_7 : decode cX0_putPortals 7 = .ok (.iload 4, 2) := dk_21 4 (dk_at dksX0_putPortals_0 7 rfl rfl)
theorem dX0_putPortals_9 : decode cX0_putPortals 9 = .ok (.invokevirtual 28, 3) := dk_182 0 28 (dk_at dksX0_putPortals_0 9 rfl rfl)
theorem dX0_putPortals_12 : decode cX0_putPortals 12 = .ok (.i2l, 1) := dk_133 (dk_at dksX0_putPortals_0 12 rfl rfl)
theorem dX0_putPortals_13 : decode cX0_putPortals 13 = .ok (.lastore, 1) := dk_80 (dk_at dksX0_putPortals_0 13 rfl rfl)
theorem dX0_putPortals_14 : decode cX0_putPortals 14 = .ok (.goto 11, 3) := dk_167 0 11 (dk_at dksX0_putPortals_0 14 rfl rfl)
theorem dX0_putPortals_17 : decode cX0_putPortals 17 = .ok (.astore 6, 2) := dk_58 6 (dk_at dksX0_putPortals_0 17 rfl rfl)
theorem dX0_putPortals_19 : decode cX0_putPortals 19 = .ok (.iconst 1, 1) := dk_4 (dk_at dksX0_putPortals_0 19 rfl rfl)
theorem dX0_putPortals_20 : decode cX0_putPortals 20 = .ok (.ireturn, 1) := dk_172 (dk_at dksX0_putPortals_0 20 rfl rfl)
theorem dX0_putPortals_21 : decode cX0_putPortals 21 = .ok (.astore 6, 2) := dk_58 6 (dk_at dksX0_putPortals_0 21 rfl rfl)
theorem dX0_putPortals_23 : decode cX0_putPortals 23 = .ok (.iconst 2, 1) := dk_5 (dk_at dksX0_putPortals_0 23 rfl rfl)
theorem dX0_putPortals_24 : decode cX0_putPortals 24 = .ok (.ireturn, 1) := dk_172 (dk_at dksX0_putPortals_1 0 rfl rfl)
theorem dX0_putPortals_25 : decode cX0_putPortals 25 = .ok (.iconst 0, 1) := dk_3 (dk_at dksX0_putPortals_1 1 rfl rfl)
theorem dX0_putPortals_26 : decode cX0_putPortals 26 = .ok (.ireturn, 1) := dk_172 (dk_at dksX0_putPortals_1 2 rfl rfl)
abbrev cX0_clear : ByteArray := method_8_code
def yX0_clear : MethodName := ⟨RX0, "clear", "(LMirrorDoors;II[J)I"⟩
def dkwX0_clear_0 : List UInt8 := [45, 3, 42, 27, 28, 182, 0, 32, 133, 80, 167, 0, 7, 58, 4, 4, 172, 3, 172]
abbrev dktX0_clear_0 : List UInt8 := dkwX0_clear_0 ++ []
theorem dksX0_clear_0 : cX0_clear.data.toList.drop 0 = dktX0_clear_0 := by decide +kernel
theorem dX0_clear_0 : decode cX0_clear 0 = .ok (.aload_n 3, 1) := dk_45 (dk_at dksX0_clear_0 0 rfl rfl)
theorem dX0_clear_1 : decode cX0_clear 1 = .ok (.iconst 0, 1) := dk_3 (dk_at dksX0_clear_0 1 rfl rfl)
theorem dX0_clear_2 : decode cX0_clear 2 = .ok (.aload_n 0, 1) := dk_42 (dk_at dksX0_clear_0 2 rfl rfl)
theorem dX0_clear_3 : decode cX0_clear 3 = .ok (.iload_n 1, 1) := dk_27 (dk_at dksX0_clear_0 3 rfl rfl)
theorem dX0_clear_4 : decode cX0_clear 4 = .ok (.iload_n 2, 1) := dk_28 (dk_at dksX0_clear_0 4 rfl rfl)
theorem dX0_clear_5 : decode cX0_clear 5 = .ok (.invokevirtual 32, 3) := dk_182 0 32 (dk_at dksX0_clear_0 5 rfl rfl)
theorem dX0_clear_8 : decode cX0_clear 8 = .ok (.i2l, 1) := dk_133 (dk_at dksX0_clear_0 8 rfl rfl)
theorem dX0_clear_9 : decode cX0_clear 9 = .ok (.lastore, 1) := dk_80 (dk_at dksX0_clear_0 9 rfl rfl)
theorem dX0_clear_10 : decode cX0_clear 10 = .ok (.goto 7, 3) := dk_167 0 7 (dk_at dksX0_clear_0 10 rfl rfl)
theorem dX0_clear_13 : decode cX0_clear 13 = .ok (.astore 4, 2) := dk_58 4 (dk_at dksX0_clear_0 13 rfl rfl)
theorem dX0_clear_15 : decode cX0_clear 15 = .ok (.iconst 1, 1) := dk_4 (dk_at dksX0_clear_0 15 rfl rfl)
theorem dX0_clear_16 : decode cX0_clear 16 = .ok (.ireturn, 1) := dk_172 (dk_at dksX0_clear_0 16 rfl rfl)
theorem dX0_clear_17 : decode cX0_clear 17 = .ok (.iconst 0, 1) := dk_3 (dk_at dksX0_clear_0 17 rfl rfl)
theorem dX0_clear_18 : decode cX0_clear 18 = .ok (.ireturn, 1) := dk_172 (dk_at dksX0_clear_0 18 rfl rfl)
abbrev cX0_setLamp : ByteArray := method_9_code
def yX0_setLamp : MethodName := ⟨RX0, "setLamp", "(LMirrorDoors;III[J)I"⟩
def dkwX0_setLamp_1 : List UInt8 := [172]
abbrev dktX0_setLamp_1 : List UInt8 := dkwX0_setLamp_1 ++ []
def dkwX0_setLamp_0 : List UInt8 := [25, 4, 3, 42, 27, 28, 29, 182, 0, 35, 133, 80, 167, 0, 11, 58, 5, 4, 172, 58, 5, 5, 172, 3]
abbrev dktX0_setLamp_0 : List UInt8 := dkwX0_setLamp_0 ++ dktX0_setLamp_1
theorem dksX0_setLamp_0 : cX0_setLamp.data.toList.drop 0 = dktX0_setLamp_0 := by decide +kernel
theorem dksX0_setLamp_1 : cX0_setLamp.data.toList.drop 24 = dktX0_setLamp_1 := dk_seg dksX0_setLamp_0 24 rfl rfl
theorem dX0_setLamp_0 : decode cX0_setLamp 0 = .ok (.aload 4, 2) := dk_25 4 (dk_at dksX0_setLamp_0 0 rfl rfl)
theorem dX0_setLamp_2 : decode cX0_setLamp 2 = .ok (.iconst 0, 1) := dk_3 (dk_at dksX0_setLamp_0 2 rfl rfl)
theorem dX0_setLamp_3 : decode cX0_setLamp 3 = .ok (.aload_n 0, 1) := dk_42 (dk_at dksX0_setLamp_0 3 rfl rfl)
theorem dX0_setLamp_4 : decode cX0_setLamp 4 = .ok (.iload_n 1, 1) := dk_27 (dk_at dksX0_setLamp_0 4 rfl rfl)
theorem dX0_setLamp_5 : decode cX0_setLamp 5 = .ok (.iload_n 2, 1) := dk_28 (dk_at dksX0_setLamp_0 5 rfl rfl)
theorem dX0_setLamp_6 : decode cX0_setLamp 6 = .ok (.iload_n 3, 1) := dk_29 (dk_at dksX0_setLamp_0 6 rfl rfl)
theorem dX0_setLamp_7 : decode cX0_setLamp 7 = .ok (.invokevirtual 35, 3) := dk_182 0 35 (dk_at dksX0_setLamp_0 7 rfl rfl)
theorem dX0_setLamp_10 : decode cX0_setLamp 10 = .ok (.i2l, 1) := dk_133 (dk_at dksX0_setLamp_0 10 rfl rfl)
theorem dX0_setLamp_11 : decode cX0_setLamp 11 = .ok (.lastore, 1) := dk_80 (dk_at dksX0_setLamp_0 11 rfl rfl)
theorem dX0_setLamp_12 : decode cX0_setLamp 12 = .ok (.goto 11, 3) := dk_167 0 11 (dk_at dksX0_setLamp_0 12 rfl rfl)
theorem dX0_setLamp_15 : decode cX0_setLamp 15 = .ok (.astore 5, 2) := dk_58 5 (dk_at dksX0_setLamp_0 15 rfl rfl)
theorem dX0_setLamp_17 : decode cX0_setLamp 17 = .ok (.iconst 1, 1) := dk_4 (dk_at dksX0_setLamp_0 17 rfl rfl)
theorem dX0_setLamp_18 : decode cX0_setLamp 18 = .ok (.ireturn, 1) := dk_172 (dk_at dksX0_setLamp_0 18 rfl rfl)
theorem dX0_setLamp_19 : decode cX0_setLamp 19 = .ok (.astore 5, 2) := dk_58 5 (dk_at dksX0_setLamp_0 19 rfl rfl)
theorem dX0_setLamp_21 : decode cX0_setLamp 21 = .ok (.iconst 2, 1) := dk_5 (dk_at dksX0_setLamp_0 21 rfl rfl)
theorem dX0_setLamp_22 : decode cX0_setLamp 22 = .ok (.ireturn, 1) := dk_172 (dk_at dksX0_setLamp_0 22 rfl rfl)
theorem dX0_setLamp_23 : decode cX0_setLamp 23 = .ok (.iconst 0, 1) := dk_3 (dk_at dksX0_setLamp_0 23 rfl rfl)
theorem dX0_setLamp_24 : decode cX0_setLamp 24 = .ok (.ireturn, 1) := dk_172 (dk_at dksX0_setLamp_1 0 rfl rfl)
abbrev cX0_set : ByteArray := method_10_code
def yX0_set : MethodName := ⟨RX0, "set", "(LMirrorDoors;ZI[J)I"⟩
def dkwX0_set_0 : List UInt8 := [45, 3, 42, 27, 28, 182, 0, 38, 133, 80, 167, 0, 7, 58, 4, 4, 172, 3, 172]
abbrev dktX0_set_0 : List UInt8 := dkwX0_set_0 ++ []
theorem dksX0_set_0 : cX0_set.data.toList.drop 0 = dktX0_set_0 := by decide +kernel
theorem dX0_set_0 : decode cX0_set 0 = .ok (.aload_n 3, 1) := dk_45 (dk_at dksX0_set_0 0 rfl rfl)
theorem dX0_set_1 : decode cX0_set 1 = .ok (.iconst 0, 1) := dk_3 (dk_at dksX0_set_0 1 rfl rfl)
theorem dX0_set_2 : decode cX0_set 2 = .ok (.aload_n 0, 1) := dk_42 (dk_at dksX0_set_0 2 rfl rfl)
theorem dX0_set_3 : decode cX0_set 3 = .ok (.iload_n 1, 1) := dk_27 (dk_at dksX0_set_0 3 rfl rfl)
theorem dX0_set_4 : decode cX0_set 4 = .ok (.iload_n 2, 1) := dk_28 (dk_at dksX0_set_0 4 rfl rfl)
theorem dX0_set_5 : decode cX0_set 5 = .ok (.invokevirtual 38, 3) := dk_182 0 38 (dk_at dksX0_set_0 5 rfl rfl)
theorem dX0_set_8 : decode cX0_set 8 = .ok (.i2l, 1) := dk_133 (dk_at dksX0_set_0 8 rfl rfl)
theorem dX0_set_9 : decode cX0_set 9 = .ok (.lastore, 1) := dk_80 (dk_at dksX0_set_0 9 rfl rfl)
theorem dX0_set_10 : decode cX0_set 10 = .ok (.goto 7, 3) := dk_167 0 7 (dk_at dksX0_set_0 10 rfl rfl)
theorem dX0_set_13 : decode cX0_set 13 = .ok (.astore 4, 2) := dk_58 4 (dk_at dksX0_set_0 13 rfl rfl)
theorem dX0_set_15 : decode cX0_set 15 = .ok (.iconst 1, 1) := dk_4 (dk_at dksX0_set_0 15 rfl rfl)
theorem dX0_set_16 : decode cX0_set 16 = .ok (.ireturn, 1) := dk_172 (dk_at dksX0_set_0 16 rfl rfl)
theorem dX0_set_17 : decode cX0_set 17 = .ok (.iconst 0, 1) := dk_3 (dk_at dksX0_set_0 17 rfl rfl)
theorem dX0_set_18 : decode cX0_set 18 = .ok (.ireturn, 1) := dk_172 (dk_at dksX0_set_0 18 rfl rfl)
abbrev cX0_turn : ByteArray := method_11_code
def yX0_turn : MethodName := ⟨RX0, "turn", "(LMirrorDoors;II[J)I"⟩
def dkwX0_turn_0 : List UInt8 := [45, 3, 42, 27, 28, 182, 0, 42, 133, 80, 167, 0, 7, 58, 4, 4, 172, 3, 172]
abbrev dktX0_turn_0 : List UInt8 := dkwX0_turn_0 ++ []
theorem dksX0_turn_0 : cX0_turn.data.toList.drop 0 = dktX0_turn_0 := by decide +kernel
theorem dX0_turn_0 : decode cX0_turn 0 = .ok (.aload_n 3, 1) := dk_45 (dk_at dksX0_turn_0 0 rfl rfl)
theorem dX0_turn_1 : decode cX0_turn 1 = .ok (.iconst 0, 1) := dk_3 (dk_at dksX0_turn_0 1 rfl rfl)
theorem dX0_turn_2 : decode cX0_turn 2 = .ok (.aload_n 0, 1) := dk_42 (dk_at dksX0_turn_0 2 rfl rfl)
theorem dX0_turn_3 : decode cX0_turn 3 = .ok (.iload_n 1, 1) := dk_27 (dk_at dksX0_turn_0 3 rfl rfl)
theorem dX0_turn_4 : decode cX0_turn 4 = .ok (.iload_n 2, 1) := dk_28 (dk_at dksX0_turn_0 4 rfl rfl)
theorem dX0_turn_5 : decode cX0_turn 5 = .ok (.invokevirtual 42, 3) := dk_182 0 42 (dk_at dksX0_turn_0 5 rfl rfl)
theorem dX0_turn_8 : decode cX0_turn 8 = .ok (.i2l, 1) := dk_133 (dk_at dksX0_turn_0 8 rfl rfl)
theorem dX0_turn_9 : decode cX0_turn 9 = .ok (.lastore, 1) := dk_80 (dk_at dksX0_turn_0 9 rfl rfl)
theorem dX0_turn_10 : decode cX0_turn 10 = .ok (.goto 7, 3) := dk_167 0 7 (dk_at dksX0_turn_0 10 rfl rfl)
theorem dX0_turn_13 : decode cX0_turn 13 = .ok (.astore 4, 2) := dk_58 4 (dk_at dksX0_turn_0 13 rfl rfl)
theorem dX0_turn_15 : decode cX0_turn 15 = .ok (.iconst 1, 1) := dk_4 (dk_at dksX0_turn_0 15 rfl rfl)
theorem dX0_turn_16 : decode cX0_turn 16 = .ok (.ireturn, 1) := dk_172 (dk_at dksX0_turn_0 16 rfl rfl)
theorem dX0_turn_17 : decode cX0_turn 17 = .ok (.iconst 0, 1) := dk_3 (dk_at dksX0_turn_0 17 rfl rfl)
theorem dX0_turn_18 : decode cX0_turn 18 = .ok (.ireturn, 1) := dk_172 (dk_at dksX0_turn_0 18 rfl rfl)
abbrev cX0_keep : ByteArray := method_12_code
def yX0_keep : MethodName := ⟨RX0, "keep", "(LMirrorDoors;I[J)I"⟩
def dkwX0_keep_0 : List UInt8 := [44, 3, 42, 27, 182, 0, 45, 133, 80, 167, 0, 6, 78, 4, 172, 3, 172]
abbrev dktX0_keep_0 : List UInt8 := dkwX0_keep_0 ++ []
theorem dksX0_keep_0 : cX0_keep.data.toList.drop 0 = dktX0_keep_0 := by decide +kernel
theorem dX0_keep_0 : decode cX0_keep 0 = .ok (.aload_n 2, 1) := dk_44 (dk_at dksX0_keep_0 0 rfl rfl)
theorem dX0_keep_1 : decode cX0_keep 1 = .ok (.iconst 0, 1) := dk_3 (dk_at dksX0_keep_0 1 rfl rfl)
theorem dX0_keep_2 : decode cX0_keep 2 = .ok (.aload_n 0, 1) := dk_42 (dk_at dksX0_keep_0 2 rfl rfl)
theorem dX0_keep_3 : decode cX0_keep 3 = .ok (.iload_n 1, 1) := dk_27 (dk_at dksX0_keep_0 3 rfl rfl)
theorem dX0_keep_4 : decode cX0_keep 4 = .ok (.invokevirtual 45, 3) := dk_182 0 45 (dk_at dksX0_keep_0 4 rfl rfl)
theorem dX0_keep_7 : decode cX0_keep 7 = .ok (.i2l, 1) := dk_133 (dk_at dksX0_keep_0 7 rfl rfl)
theorem dX0_keep_8 : decode cX0_keep 8 = .ok (.lastore, 1) := dk_80 (dk_at dksX0_keep_0 8 rfl rfl)
theorem dX0_keep_9 : decode cX0_keep 9 = .ok (.goto 6, 3) := dk_167 0 6 (dk_at dksX0_keep_0 9 rfl rfl)
theorem dX0_keep_12 : decode cX0_keep 12 = .ok (.astore_n 3, 1) := dk_78 (dk_at dksX0_keep_0 12 rfl rfl)
theorem dX0_keep_13 : decode cX0_keep 13 = .ok (.iconst 1, 1) := dk_4 (dk_at dksX0_keep_0 13 rfl rfl)
theorem dX0_keep_14 : decode cX0_keep 14 = .ok (.ireturn, 1) := dk_172 (dk_at dksX0_keep_0 14 rfl rfl)
theorem dX0_keep_15 : decode cX0_keep 15 = .ok (.iconst 0, 1) := dk_3 (dk_at dksX0_keep_0 15 rfl rfl)
theorem dX0_keep_16 : decode cX0_keep 16 = .ok (.ireturn, 1) := dk_172 (dk_at dksX0_keep_0 16 rfl rfl)
abbrev cX0_restore : ByteArray := method_13_code
def yX0_restore : MethodName := ⟨RX0, "restore", "(LMirrorDoors;I[J)I"⟩
def dkwX0_restore_0 : List UInt8 := [44, 3, 42, 27, 182, 0, 49, 133, 80, 167, 0, 6, 78, 4, 172, 3, 172]
abbrev dktX0_restore_0 : List UInt8 := dkwX0_restore_0 ++ []
theorem dksX0_restore_0 : cX0_restore.data.toList.drop 0 = dktX0_restore_0 := by decide +kernel
theorem dX0_restore_0 : decode cX0_restore 0 = .ok (.aload_n 2, 1) := dk_44 (dk_at dksX0_restore_0 0 rfl rfl)
theorem dX0_restore_1 : decode cX0_restore 1 = .ok (.iconst 0, 1) := dk_3 (dk_at dksX0_restore_0 1 rfl rfl)
theorem dX0_restore_2 : decode cX0_restore 2 = .ok (.aload_n 0, 1) := dk_42 (dk_at dksX0_restore_0 2 rfl rfl)
theorem dX0_restore_3 : decode cX0_restore 3 = .ok (.iload_n 1, 1) := dk_27 (dk_at dksX0_restore_0 3 rfl rfl)
theorem dX0_restore_4 : decode cX0_restore 4 = .ok (.invokevirtual 49, 3) := dk_182 0 49 (dk_at dksX0_restore_0 4 rfl rfl)
theorem dX0_restore_7 : decode cX0_restore 7 = .ok (.i2l, 1) := dk_133 (dk_at dksX0_restore_0 7 rfl rfl)
theorem dX0_restore_8 : decode cX0_restore 8 = .ok (.lastore, 1) := dk_80 (dk_at dksX0_restore_0 8 rfl rfl)
theorem dX0_restore_9 : decode cX0_restore 9 = .ok (.goto 6, 3) := dk_167 0 6 (dk_at dksX0_restore_0 9 rfl rfl)
theorem dX0_restore_12 : decode cX0_restore 12 = .ok (.astore_n 3, 1) := dk_78 (dk_at dksX0_restore_0 12 rfl rfl)
theorem dX0_restore_13 : decode cX0_restore 13 = .ok (.iconst 1, 1) := dk_4 (dk_at dksX0_restore_0 13 rfl rfl)
theorem dX0_restore_14 : decode cX0_restore 14 = .ok (.ireturn, 1) := dk_172 (dk_at dksX0_restore_0 14 rfl rfl)
theorem dX0_restore_15 : decode cX0_restore 15 = .ok (.iconst 0, 1) := dk_3 (dk_at dksX0_restore_0 15 rfl rfl)
theorem dX0_restore_16 : decode cX0_restore 16 = .ok (.ireturn, 1) := dk_172 (dk_at dksX0_restore_0 16 rfl rfl)
abbrev cX0_truncate : ByteArray := method_14_code
def yX0_truncate : MethodName := ⟨RX0, "truncate", "(LMirrorDoors;I[J)I"⟩
def dkwX0_truncate_0 : List UInt8 := [44, 3, 42, 27, 182, 0, 52, 133, 80, 167, 0, 6, 78, 4, 172, 3, 172]
abbrev dktX0_truncate_0 : List UInt8 := dkwX0_truncate_0 ++ []
theorem dksX0_truncate_0 : cX0_truncate.data.toList.drop 0 = dktX0_truncate_0 := by decide +kernel
theorem dX0_truncate_0 : decode cX0_truncate 0 = .ok (.aload_n 2, 1) := dk_44 (dk_at dksX0_truncate_0 0 rfl rfl)
theorem dX0_truncate_1 : decode cX0_truncate 1 = .ok (.iconst 0, 1) := dk_3 (dk_at dksX0_truncate_0 1 rfl rfl)
theorem dX0_truncate_2 : decode cX0_truncate 2 = .ok (.aload_n 0, 1) := dk_42 (dk_at dksX0_truncate_0 2 rfl rfl)
theorem dX0_truncate_3 : decode cX0_truncate 3 = .ok (.iload_n 1, 1) := dk_27 (dk_at dksX0_truncate_0 3 rfl rfl)
theorem dX0_truncate_4 : decode cX0_truncate 4 = .ok (.invokevirtual 52, 3) := dk_182 0 52 (dk_at dksX0_truncate_0 4 rfl rfl)
theorem dX0_truncate_7 : decode cX0_truncate 7 = .ok (.i2l, 1) := dk_133 (dk_at dksX0_truncate_0 7 rfl rfl)
theorem dX0_truncate_8 : decode cX0_truncate 8 = .ok (.lastore, 1) := dk_80 (dk_at dksX0_truncate_0 8 rfl rfl)
theorem dX0_truncate_9 : decode cX0_truncate 9 = .ok (.goto 6, 3) := dk_167 0 6 (dk_at dksX0_truncate_0 9 rfl rfl)
theorem dX0_truncate_12 : decode cX0_truncate 12 = .ok (.astore_n 3, 1) := dk_78 (dk_at dksX0_truncate_0 12 rfl rfl)
theorem dX0_truncate_13 : decode cX0_truncate 13 = .ok (.iconst 1, 1) := dk_4 (dk_at dksX0_truncate_0 13 rfl rfl)
theorem dX0_truncate_14 : decode cX0_truncate 14 = .ok (.ireturn, 1) := dk_172 (dk_at dksX0_truncate_0 14 rfl rfl)
theorem dX0_truncate_15 : decode cX0_truncate 15 = .ok (.iconst 0, 1) := dk_3 (dk_at dksX0_truncate_0 15 rfl rfl)
theorem dX0_truncate_16 : decode cX0_truncate 16 = .ok (.ireturn, 1) := dk_172 (dk_at dksX0_truncate_0 16 rfl rfl)
abbrev cX0_board : ByteArray := method_15_code
def yX0_board : MethodName := ⟨RX0, "board", "(LMirrorDoors;I[J)I"⟩
def dkwX0_board_0 : List UInt8 := [44, 3, 42, 27, 182, 0, 55, 133, 80, 167, 0, 6, 78, 4, 172, 3, 172]
abbrev dktX0_board_0 : List UInt8 := dkwX0_board_0 ++ []
theorem dksX0_board_0 : cX0_board.data.toList.drop 0 = dktX0_board_0 := by decide +kernel
theorem dX0_board_0 : decode cX0_board 0 = .ok (.aload_n 2, 1) := dk_44 (dk_at dksX0_board_0 0 rfl rfl)
theorem dX0_board_1 : decode cX0_board 1 = .ok (.iconst 0, 1) := dk_3 (dk_at dksX0_board_0 1 rfl rfl)
theorem dX0_board_2 : decode cX0_board 2 = .ok (.aload_n 0, 1) := dk_42 (dk_at dksX0_board_0 2 rfl rfl)
theorem dX0_board_3 : decode cX0_board 3 = .ok (.iload_n 1, 1) := dk_27 (dk_at dksX0_board_0 3 rfl rfl)
theorem dX0_board_4 : decode cX0_board 4 = .ok (.invokevirtual 55, 3) := dk_182 0 55 (dk_at dksX0_board_0 4 rfl rfl)
theorem dX0_board_7 : decode cX0_board 7 = .ok (.i2l, 1) := dk_133 (dk_at dksX0_board_0 7 rfl rfl)
theorem dX0_board_8 : decode cX0_board 8 = .ok (.lastore, 1) := dk_80 (dk_at dksX0_board_0 8 rfl rfl)
theorem dX0_board_9 : decode cX0_board 9 = .ok (.goto 6, 3) := dk_167 0 6 (dk_at dksX0_board_0 9 rfl rfl)
theorem dX0_board_12 : decode cX0_board 12 = .ok (.astore_n 3, 1) := dk_78 (dk_at dksX0_board_0 12 rfl rfl)
theorem dX0_board_13 : decode cX0_board 13 = .ok (.iconst 1, 1) := dk_4 (dk_at dksX0_board_0 13 rfl rfl)
theorem dX0_board_14 : decode cX0_board 14 = .ok (.ireturn, 1) := dk_172 (dk_at dksX0_board_0 14 rfl rfl)
theorem dX0_board_15 : decode cX0_board 15 = .ok (.iconst 0, 1) := dk_3 (dk_at dksX0_board_0 15 rfl rfl)
theorem dX0_board_16 : decode cX0_board 16 = .ok (.ireturn, 1) := dk_172 (dk_at dksX0_board_0 16 rfl rfl)
abbrev cX0_cell : ByteArray := method_16_code
def yX0_cell : MethodName := ⟨RX0, "cell", "(LMirrorDoors;III[J)I"⟩
def dkwX0_cell_1 : List UInt8 := [172]
abbrev dktX0_cell_1 : List UInt8 := dkwX0_cell_1 ++ []
def dkwX0_cell_0 : List UInt8 := [25, 4, 3, 42, 27, 28, 29, 182, 0, 58, 133, 80, 167, 0, 11, 58, 5, 4, 172, 58, 5, 5, 172, 3]
abbrev dktX0_cell_0 : List UInt8 := dkwX0_cell_0 ++ dktX0_cell_1
theorem dksX0_cell_0 : cX0_cell.data.toList.drop 0 = dktX0_cell_0 := by decide +kernel
theorem dksX0_cell_1 : cX0_cell.data.toList.drop 24 = dktX0_cell_1 := dk_seg dksX0_cell_0 24 rfl rfl
theorem dX0_cell_0 : decode cX0_cell 0 = .ok (.aload 4, 2) := dk_25 4 (dk_at dksX0_cell_0 0 rfl rfl)
theorem dX0_cell_2 : decode cX0_cell 2 = .ok (.iconst 0, 1) := dk_3 (dk_at dksX0_cell_0 2 rfl rfl)
theorem dX0_cell_3 : decode cX0_cell 3 = .ok (.aload_n 0, 1) := dk_42 (dk_at dksX0_cell_0 3 rfl rfl)
theorem dX0_cell_4 : decode cX0_cell 4 = .ok (.iload_n 1, 1) := dk_27 (dk_at dksX0_cell_0 4 rfl rfl)
theorem dX0_cell_5 : decode cX0_cell 5 = .ok (.iload_n 2, 1) := dk_28 (dk_at dksX0_cell_0 5 rfl rfl)
theorem dX0_cell_6 : decode cX0_cell 6 = .ok (.iload_n 3, 1) := dk_29 (dk_at dksX0_cell_0 6 rfl rfl)
theorem dX0_cell_7 : decode cX0_cell 7 = .ok (.invokevirtual 58, 3) := dk_182 0 58 (dk_at dksX0_cell_0 7 rfl rfl)
theorem dX0_cell_10 : decode cX0_cell 10 = .ok (.i2l, 1) := dk_133 (dk_at dksX0_cell_0 10 rfl rfl)
theorem dX0_cell_11 : decode cX0_cell 11 = .ok (.lastore, 1) := dk_80 (dk_at dksX0_cell_0 11 rfl rfl)
theorem dX0_cell_12 : decode cX0_cell 12 = .ok (.goto 11, 3) := dk_167 0 11 (dk_at dksX0_cell_0 12 rfl rfl)
theorem dX0_cell_15 : decode cX0_cell 15 = .ok (.astore 5, 2) := dk_58 5 (dk_at dksX0_cell_0 15 rfl rfl)
theorem dX0_cell_17 : decode cX0_cell 17 = .ok (.iconst 1, 1) := dk_4 (dk_at dksX0_cell_0 17 rfl rfl)
theorem dX0_cell_18 : decode cX0_cell 18 = .ok (.ireturn, 1) := dk_172 (dk_at dksX0_cell_0 18 rfl rfl)
theorem dX0_cell_19 : decode cX0_cell 19 = .ok (.astore 5, 2) := dk_58 5 (dk_at dksX0_cell_0 19 rfl rfl)
theorem dX0_cell_21 : decode cX0_cell 21 = .ok (.iconst 2, 1) := dk_5 (dk_at dksX0_cell_0 21 rfl rfl)
theorem dX0_cell_22 : decode cX0_cell 22 = .ok (.ireturn, 1) := dk_172 (dk_at dksX0_cell_0 22 rfl rfl)
theorem dX0_cell_23 : decode cX0_cell 23 = .ok (.iconst 0, 1) := dk_3 (dk_at dksX0_cell_0 23 rfl rfl)
theorem dX0_cell_24 : decode cX0_cell 24 = .ok (.ireturn, 1) := dk_172 (dk_at dksX0_cell_1 0 rfl rfl)
abbrev cX0_mirror : ByteArray := method_17_code
def yX0_mirror : MethodName := ⟨RX0, "mirror", "(LMirrorDoors;II[J)I"⟩
def dkwX0_mirror_0 : List UInt8 := [45, 3, 42, 27, 28, 182, 0, 61, 133, 80, 167, 0, 11, 58, 4, 4, 172, 58, 4, 5, 172, 3, 172]
abbrev dktX0_mirror_0 : List UInt8 := dkwX0_mirror_0 ++ []
theorem dksX0_mirror_0 : cX0_mirror.data.toList.drop 0 = dktX0_mirror_0 := by decide +kernel
theorem dX0_mirror_0 : decode cX0_mirror 0 = .ok (.aload_n 3, 1) := dk_45 (dk_at dksX0_mirror_0 0 rfl rfl)
theorem dX0_mirror_1 : decode cX0_mirror 1 = .ok (.iconst 0, 1) := dk_3 (dk_at dksX0_mirror_0 1 rfl rfl)
theorem dX0_mirror_2 : decode cX0_mirror 2 = .ok (.aload_n 0, 1) := dk_42 (dk_at dksX0_mirror_0 2 rfl rfl)
theorem dX0_mirror_3 : decode cX0_mirror 3 = .ok (.iload_n 1, 1) := dk_27 (dk_at dksX0_mirror_0 3 rfl rfl)
theorem dX0_mirror_4 : decode cX0_mirror 4 = .ok (.iload_n 2, 1) := dk_28 (dk_at dksX0_mirror_0 4 rfl rfl)
theorem dX0_mirror_5 : decode cX0_mirror 5 = .ok (.invokevirtual 61, 3) := dk_182 0 61 (dk_at dksX0_mirror_0 5 rfl rfl)
theorem dX0_mirror_8 : decode cX0_mirror 8 = .ok (.i2l, 1) := dk_133 (dk_at dksX0_mirror_0 8 rfl rfl)
theorem dX0_mirror_9 : decode cX0_mirror 9 = .ok (.lastore, 1) := dk_80 (dk_at dksX0_mirror_0 9 rfl rfl)
theorem dX0_mirror_10 : decode cX0_mirror 10 = .ok (.goto 11, 3) := dk_167 0 11 (dk_at dksX0_mirror_0 10 rfl rfl)
theorem dX0_mirror_13 : decode cX0_mirror 13 = .ok (.astore 4, 2) := dk_58 4 (dk_at dksX0_mirror_0 13 rfl rfl)
theorem dX0_mirror_15 : decode cX0_mirror 15 = .ok (.iconst 1, 1) := dk_4 (dk_at dksX0_mirror_0 15 rfl rfl)
theorem dX0_mirror_16 : decode cX0_mirror 16 = .ok (.ireturn, 1) := dk_172 (dk_at dksX0_mirror_0 16 rfl rfl)
theorem dX0_mirror_17 : decode cX0_mirror 17 = .ok (.astore 4, 2) := dk_58 4 (dk_at dksX0_mirror_0 17 rfl rfl)
theorem dX0_mirror_19 : decode cX0_mirror 19 = .ok (.iconst 2, 1) := dk_5 (dk_at dksX0_mirror_0 19 rfl rfl)
theorem dX0_mirror_20 : decode cX0_mirror 20 = .ok (.ireturn, 1) := dk_172 (dk_at dksX0_mirror_0 20 rfl rfl)
theorem dX0_mirror_21 : decode cX0_mirror 21 = .ok (.iconst 0, 1) := dk_3 (dk_at dksX0_mirror_0 21 rfl rfl)
theorem dX0_mirror_22 : decode cX0_mirror 22 = .ok (.ireturn, 1) := dk_172 (dk_at dksX0_mirror_0 22 rfl rfl)
abbrev cX0_door : ByteArray := method_18_code
def yX0_door : MethodName := ⟨RX0, "door", "(LMirrorDoors;II[J)I"⟩
def dkwX0_door_0 : List UInt8 := [45, 3, 42, 27, 28, 182, 0, 66, 133, 80, 167, 0, 11, 58, 4, 4, 172, 58, 4, 5, 172, 3, 172]
abbrev dktX0_door_0 : List UInt8 := dkwX0_door_0 ++ []
theorem dksX0_door_0 : cX0_door.data.toList.drop 0 = dktX0_door_0 := by decide +kernel
theorem dX0_door_0 : decode cX0_door 0 = .ok (.aload_n 3, 1) := dk_45 (dk_at dksX0_door_0 0 rfl rfl)
theorem dX0_door_1 : decode cX0_door 1 = .ok (.iconst 0, 1) := dk_3 (dk_at dksX0_door_0 1 rfl rfl)
theorem dX0_door_2 : decode cX0_door 2 = .ok (.aload_n 0, 1) := dk_42 (dk_at dksX0_door_0 2 rfl rfl)
theorem dX0_door_3 : decode cX0_door 3 = .ok (.iload_n 1, 1) := dk_27 (dk_at dksX0_door_0 3 rfl rfl)
theorem dX0_door_4 : decode cX0_door 4 = .ok (.iload_n 2, 1) := dk_28 (dk_at dksX0_door_0 4 rfl rfl)
theorem dX0_door_5 : decode cX0_door 5 = .ok (.invokevirtual 66, 3) := dk_182 0 66 (dk_at dksX0_door_0 5 rfl rfl)
theorem dX0_door_8 : decode cX0_door 8 = .ok (.i2l, 1) := dk_133 (dk_at dksX0_door_0 8 rfl rfl)
theorem dX0_door_9 : decode cX0_door 9 = .ok (.lastore, 1) := dk_80 (dk_at dksX0_door_0 9 rfl rfl)
theorem dX0_door_10 : decode cX0_door 10 = .ok (.goto 11, 3) := dk_167 0 11 (dk_at dksX0_door_0 10 rfl rfl)
theorem dX0_door_13 : decode cX0_door 13 = .ok (.astore 4, 2) := dk_58 4 (dk_at dksX0_door_0 13 rfl rfl)
theorem dX0_door_15 : decode cX0_door 15 = .ok (.iconst 1, 1) := dk_4 (dk_at dksX0_door_0 15 rfl rfl)
theorem dX0_door_16 : decode cX0_door 16 = .ok (.ireturn, 1) := dk_172 (dk_at dksX0_door_0 16 rfl rfl)
theorem dX0_door_17 : decode cX0_door 17 = .ok (.astore 4, 2) := dk_58 4 (dk_at dksX0_door_0 17 rfl rfl)
theorem dX0_door_19 : decode cX0_door 19 = .ok (.iconst 2, 1) := dk_5 (dk_at dksX0_door_0 19 rfl rfl)
theorem dX0_door_20 : decode cX0_door 20 = .ok (.ireturn, 1) := dk_172 (dk_at dksX0_door_0 20 rfl rfl)
theorem dX0_door_21 : decode cX0_door 21 = .ok (.iconst 0, 1) := dk_3 (dk_at dksX0_door_0 21 rfl rfl)
theorem dX0_door_22 : decode cX0_door 22 = .ok (.ireturn, 1) := dk_172 (dk_at dksX0_door_0 22 rfl rfl)
abbrev cX0_ray : ByteArray := method_19_code
def yX0_ray : MethodName := ⟨RX0, "ray", "(LMirrorDoors;I[J)I"⟩
def dkwX0_ray_0 : List UInt8 := [44, 3, 42, 27, 182, 0, 69, 133, 80, 167, 0, 6, 78, 4, 172, 3, 172]
abbrev dktX0_ray_0 : List UInt8 := dkwX0_ray_0 ++ []
theorem dksX0_ray_0 : cX0_ray.data.toList.drop 0 = dktX0_ray_0 := by decide +kernel
theorem dX0_ray_0 : decode cX0_ray 0 = .ok (.aload_n 2, 1) := dk_44 (dk_at dksX0_ray_0 0 rfl rfl)
theorem dX0_ray_1 : decode cX0_ray 1 = .ok (.iconst 0, 1) := dk_3 (dk_at dksX0_ray_0 1 rfl rfl)
theorem dX0_ray_2 : decode cX0_ray 2 = .ok (.aload_n 0, 1) := dk_42 (dk_at dksX0_ray_0 2 rfl rfl)
theorem dX0_ray_3 : decode cX0_ray 3 = .ok (.iload_n 1, 1) := dk_27 (dk_at dksX0_ray_0 3 rfl rfl)
theorem dX0_ray_4 : decode cX0_ray 4 = .ok (.invokevirtual 69, 3) := dk_182 0 69 (dk_at dksX0_ray_0 4 rfl rfl)
theorem dX0_ray_7 : decode cX0_ray 7 = .ok (.i2l, 1) := dk_133 (dk_at dksX0_ray_0 7 rfl rfl)
theorem dX0_ray_8 : decode cX0_ray 8 = .ok (.lastore, 1) := dk_80 (dk_at dksX0_ray_0 8 rfl rfl)
theorem dX0_ray_9 : decode cX0_ray 9 = .ok (.goto 6, 3) := dk_167 0 6 (dk_at dksX0_ray_0 9 rfl rfl)
theorem dX0_ray_12 : decode cX0_ray 12 = .ok (.astore_n 3, 1) := dk_78 (dk_at dksX0_ray_0 12 rfl rfl)
theorem dX0_ray_13 : decode cX0_ray 13 = .ok (.iconst 1, 1) := dk_4 (dk_at dksX0_ray_0 13 rfl rfl)
theorem dX0_ray_14 : decode cX0_ray 14 = .ok (.ireturn, 1) := dk_172 (dk_at dksX0_ray_0 14 rfl rfl)
theorem dX0_ray_15 : decode cX0_ray 15 = .ok (.iconst 0, 1) := dk_3 (dk_at dksX0_ray_0 15 rfl rfl)
theorem dX0_ray_16 : decode cX0_ray 16 = .ok (.ireturn, 1) := dk_172 (dk_at dksX0_ray_0 16 rfl rfl)
abbrev cX0_beam : ByteArray := method_20_code
def yX0_beam : MethodName := ⟨RX0, "beam", "(LMirrorDoors;II[J)I"⟩
def dkwX0_beam_0 : List UInt8 := [45, 3, 42, 27, 28, 182, 0, 72, 133, 80, 167, 0, 11, 58, 4, 4, 172, 58, 4, 5, 172, 3, 172]
abbrev dktX0_beam_0 : List UInt8 := dkwX0_beam_0 ++ []
theorem dksX0_beam_0 : cX0_beam.data.toList.drop 0 = dktX0_beam_0 := by decide +kernel
theorem dX0_beam_0 : decode cX0_beam 0 = .ok (.aload_n 3, 1) := dk_45 (dk_at dksX0_beam_0 0 rfl rfl)
theorem dX0_beam_1 : decode cX0_beam 1 = .ok (.iconst 0, 1) := dk_3 (dk_at dksX0_beam_0 1 rfl rfl)
theorem dX0_beam_2 : decode cX0_beam 2 = .ok (.aload_n 0, 1) := dk_42 (dk_at dksX0_beam_0 2 rfl rfl)
theorem dX0_beam_3 : decode cX0_beam 3 = .ok (.iload_n 1, 1) := dk_27 (dk_at dksX0_beam_0 3 rfl rfl)
theorem dX0_beam_4 : decode cX0_beam 4 = .ok (.iload_n 2, 1) := dk_28 (dk_at dksX0_beam_0 4 rfl rfl)
theorem dX0_beam_5 : decode cX0_beam 5 = .ok (.invokevirtual 72, 3) := dk_182 0 72 (dk_at dksX0_beam_0 5 rfl rfl)
theorem dX0_beam_8 : decode cX0_beam 8 = .ok (.i2l, 1) := dk_133 (dk_at dksX0_beam_0 8 rfl rfl)
theorem dX0_beam_9 : decode cX0_beam 9 = .ok (.lastore, 1) := dk_80 (dk_at dksX0_beam_0 9 rfl rfl)
theorem dX0_beam_10 : decode cX0_beam 10 = .ok (.goto 11, 3) := dk_167 0 11 (dk_at dksX0_beam_0 10 rfl rfl)
theorem dX0_beam_13 : decode cX0_beam 13 = .ok (.astore 4, 2) := dk_58 4 (dk_at dksX0_beam_0 13 rfl rfl)
theorem dX0_beam_15 : decode cX0_beam 15 = .ok (.iconst 1, 1) := dk_4 (dk_at dksX0_beam_0 15 rfl rfl)
theorem dX0_beam_16 : decode cX0_beam 16 = .ok (.ireturn, 1) := dk_172 (dk_at dksX0_beam_0 16 rfl rfl)
theorem dX0_beam_17 : decode cX0_beam 17 = .ok (.astore 4, 2) := dk_58 4 (dk_at dksX0_beam_0 17 rfl rfl)
theorem dX0_beam_19 : decode cX0_beam 19 = .ok (.iconst 2, 1) := dk_5 (dk_at dksX0_beam_0 19 rfl rfl)
theorem dX0_beam_20 : decode cX0_beam 20 = .ok (.ireturn, 1) := dk_172 (dk_at dksX0_beam_0 20 rfl rfl)
theorem dX0_beam_21 : decode cX0_beam 21 = .ok (.iconst 0, 1) := dk_3 (dk_at dksX0_beam_0 21 rfl rfl)
theorem dX0_beam_22 : decode cX0_beam 22 = .ok (.ireturn, 1) := dk_172 (dk_at dksX0_beam_0 22 rfl rfl)
abbrev cX0_stepsTo : ByteArray := method_21_code
def yX0_stepsTo : MethodName := ⟨RX0, "stepsTo", "(LMirrorDoors;I[J)I"⟩
def dkwX0_stepsTo_0 : List UInt8 := [44, 3, 42, 27, 182, 0, 75, 133, 80, 167, 0, 6, 78, 4, 172, 3, 172]
abbrev dktX0_stepsTo_0 : List UInt8 := dkwX0_stepsTo_0 ++ []
theorem dksX0_stepsTo_0 : cX0_stepsTo.data.toList.drop 0 = dktX0_stepsTo_0 := by decide +kernel
theorem dX0_stepsTo_0 : decode cX0_stepsTo 0 = .ok (.aload_n 2, 1) := dk_44 (dk_at dksX0_stepsTo_0 0 rfl rfl)
theorem dX0_stepsTo_1 : decode cX0_stepsTo 1 = .ok (.iconst 0, 1) := dk_3 (dk_at dksX0_stepsTo_0 1 rfl rfl)
theorem dX0_stepsTo_2 : decode cX0_stepsTo 2 = .ok (.aload_n 0, 1) := dk_42 (dk_at dksX0_stepsTo_0 2 rfl rfl)
theorem dX0_stepsTo_3 : decode cX0_stepsTo 3 = .ok (.iload_n 1, 1) := dk_27 (dk_at dksX0_stepsTo_0 3 rfl rfl)
theorem dX0_stepsTo_4 : decode cX0_stepsTo 4 = .ok (.invokevirtual 75, 3) := dk_182 0 75 (dk_at dksX0_stepsTo_0 4 rfl rfl)
theorem dX0_stepsTo_7 : decode cX0_stepsTo 7 = .ok (.i2l, 1) := dk_133 (dk_at dksX0_stepsTo_0 7 rfl rfl)
theorem dX0_stepsTo_8 : decode cX0_stepsTo 8 = .ok (.lastore, 1) := dk_80 (dk_at dksX0_stepsTo_0 8 rfl rfl)
theorem dX0_stepsTo_9 : decode cX0_stepsTo 9 = .ok (.goto 6, 3) := dk_167 0 6 (dk_at dksX0_stepsTo_0 9 rfl rfl)
theorem dX0_stepsTo_12 : decode cX0_stepsTo 12 = .ok (.astore_n 3, 1) := dk_78 (dk_at dksX0_stepsTo_0 12 rfl rfl)
theorem dX0_stepsTo_13 : decode cX0_stepsTo 13 = .ok (.iconst 1, 1) := dk_4 (dk_at dksX0_stepsTo_0 13 rfl rfl)
theorem dX0_stepsTo_14 : decode cX0_stepsTo 14 = .ok (.ireturn, 1) := dk_172 (dk_at dksX0_stepsTo_0 14 rfl rfl)
theorem dX0_stepsTo_15 : decode cX0_stepsTo 15 = .ok (.iconst 0, 1) := dk_3 (dk_at dksX0_stepsTo_0 15 rfl rfl)
theorem dX0_stepsTo_16 : decode cX0_stepsTo 16 = .ok (.ireturn, 1) := dk_172 (dk_at dksX0_stepsTo_0 16 rfl rfl)
abbrev cX0_whyNot : ByteArray := method_22_code
def yX0_whyNot : MethodName := ⟨RX0, "whyNot", "(LMirrorDoors;III[J)I"⟩
def dkwX0_whyNot_1 : List UInt8 := [172]
abbrev dktX0_whyNot_1 : List UInt8 := dkwX0_whyNot_1 ++ []
def dkwX0_whyNot_0 : List UInt8 := [25, 4, 3, 42, 27, 28, 29, 182, 0, 78, 133, 80, 167, 0, 11, 58, 5, 4, 172, 58, 5, 5, 172, 3]
abbrev dktX0_whyNot_0 : List UInt8 := dkwX0_whyNot_0 ++ dktX0_whyNot_1
theorem dksX0_whyNot_0 : cX0_whyNot.data.toList.drop 0 = dktX0_whyNot_0 := by decide +kernel
theorem dksX0_whyNot_1 : cX0_whyNot.data.toList.drop 24 = dktX0_whyNot_1 := dk_seg dksX0_whyNot_0 24 rfl rfl
theorem dX0_whyNot_0 : decode cX0_whyNot 0 = .ok (.aload 4, 2) := dk_25 4 (dk_at dksX0_whyNot_0 0 rfl rfl)
theorem dX0_whyNot_2 : decode cX0_whyNot 2 = .ok (.iconst 0, 1) := dk_3 (dk_at dksX0_whyNot_0 2 rfl rfl)
theorem dX0_whyNot_3 : decode cX0_whyNot 3 = .ok (.aload_n 0, 1) := dk_42 (dk_at dksX0_whyNot_0 3 rfl rfl)
theorem dX0_whyNot_4 : decode cX0_whyNot 4 = .ok (.iload_n 1, 1) := dk_27 (dk_at dksX0_whyNot_0 4 rfl rfl)
theorem dX0_whyNot_5 : decode cX0_whyNot 5 = .ok (.iload_n 2, 1) := dk_28 (dk_at dksX0_whyNot_0 5 rfl rfl)
theorem dX0_whyNot_6 : decode cX0_whyNot 6 = .ok (.iload_n 3, 1) := dk_29 (dk_at dksX0_whyNot_0 6 rfl rfl)
theorem dX0_whyNot_7 : decode cX0_whyNot 7 = .ok (.invokevirtual 78, 3) := dk_182 0 78 (dk_at dksX0_whyNot_0 7 rfl rfl)
theorem dX0_whyNot_10 : decode cX0_whyNot 10 = .ok (.i2l, 1) := dk_133 (dk_at dksX0_whyNot_0 10 rfl rfl)
theorem dX0_whyNot_11 : decode cX0_whyNot 11 = .ok (.lastore, 1) := dk_80 (dk_at dksX0_whyNot_0 11 rfl rfl)
theorem dX0_whyNot_12 : decode cX0_whyNot 12 = .ok (.goto 11, 3) := dk_167 0 11 (dk_at dksX0_whyNot_0 12 rfl rfl)
theorem dX0_whyNot_15 : decode cX0_whyNot 15 = .ok (.astore 5, 2) := dk_58 5 (dk_at dksX0_whyNot_0 15 rfl rfl)
theorem dX0_whyNot_17 : decode cX0_whyNot 17 = .ok (.iconst 1, 1) := dk_4 (dk_at dksX0_whyNot_0 17 rfl rfl)
theorem dX0_whyNot_18 : decode cX0_whyNot 18 = .ok (.ireturn, 1) := dk_172 (dk_at dksX0_whyNot_0 18 rfl rfl)
theorem dX0_whyNot_19 : decode cX0_whyNot 19 = .ok (.astore 5, 2) := dk_58 5 (dk_at dksX0_whyNot_0 19 rfl rfl)
theorem dX0_whyNot_21 : decode cX0_whyNot 21 = .ok (.iconst 2, 1) := dk_5 (dk_at dksX0_whyNot_0 21 rfl rfl)
theorem dX0_whyNot_22 : decode cX0_whyNot 22 = .ok (.ireturn, 1) := dk_172 (dk_at dksX0_whyNot_0 22 rfl rfl)
theorem dX0_whyNot_23 : decode cX0_whyNot 23 = .ok (.iconst 0, 1) := dk_3 (dk_at dksX0_whyNot_0 23 rfl rfl)
theorem dX0_whyNot_24 : decode cX0_whyNot 24 = .ok (.ireturn, 1) := dk_172 (dk_at dksX0_whyNot_1 0 rfl rfl)
abbrev cX0_hitIf : ByteArray := method_23_code
def yX0_hitIf : MethodName := ⟨RX0, "hitIf", "(LMirrorDoors;I[J)I"⟩
def dkwX0_hitIf_0 : List UInt8 := [44, 3, 42, 27, 182, 0, 81, 133, 80, 167, 0, 6, 78, 4, 172, 3, 172]
abbrev dktX0_hitIf_0 : List UInt8 := dkwX0_hitIf_0 ++ []
theorem dksX0_hitIf_0 : cX0_hitIf.data.toList.drop 0 = dktX0_hitIf_0 := by decide +kernel
theorem dX0_hitIf_0 : decode cX0_hitIf 0 = .ok (.aload_n 2, 1) := dk_44 (dk_at dksX0_hitIf_0 0 rfl rfl)
theorem dX0_hitIf_1 : decode cX0_hitIf 1 = .ok (.iconst 0, 1) := dk_3 (dk_at dksX0_hitIf_0 1 rfl rfl)
theorem dX0_hitIf_2 : decode cX0_hitIf 2 = .ok (.aload_n 0, 1) := dk_42 (dk_at dksX0_hitIf_0 2 rfl rfl)
theorem dX0_hitIf_3 : decode cX0_hitIf 3 = .ok (.iload_n 1, 1) := dk_27 (dk_at dksX0_hitIf_0 3 rfl rfl)
theorem dX0_hitIf_4 : decode cX0_hitIf 4 = .ok (.invokevirtual 81, 3) := dk_182 0 81 (dk_at dksX0_hitIf_0 4 rfl rfl)
theorem dX0_hitIf_7 : decode cX0_hitIf 7 = .ok (.i2l, 1) := dk_133 (dk_at dksX0_hitIf_0 7 rfl rfl)
theorem dX0_hitIf_8 : decode cX0_hitIf 8 = .ok (.lastore, 1) := dk_80 (dk_at dksX0_hitIf_0 8 rfl rfl)
theorem dX0_hitIf_9 : decode cX0_hitIf 9 = .ok (.goto 6, 3) := dk_167 0 6 (dk_at dksX0_hitIf_0 9 rfl rfl)
theorem dX0_hitIf_12 : decode cX0_hitIf 12 = .ok (.astore_n 3, 1) := dk_78 (dk_at dksX0_hitIf_0 12 rfl rfl)
theorem dX0_hitIf_13 : decode cX0_hitIf 13 = .ok (.iconst 1, 1) := dk_4 (dk_at dksX0_hitIf_0 13 rfl rfl)
theorem dX0_hitIf_14 : decode cX0_hitIf 14 = .ok (.ireturn, 1) := dk_172 (dk_at dksX0_hitIf_0 14 rfl rfl)
theorem dX0_hitIf_15 : decode cX0_hitIf 15 = .ok (.iconst 0, 1) := dk_3 (dk_at dksX0_hitIf_0 15 rfl rfl)
theorem dX0_hitIf_16 : decode cX0_hitIf 16 = .ok (.ireturn, 1) := dk_172 (dk_at dksX0_hitIf_0 16 rfl rfl)
abbrev cX0_fewest : ByteArray := method_24_code
def yX0_fewest : MethodName := ⟨RX0, "fewest", "(LMirrorDoors;I[J)I"⟩
def dkwX0_fewest_0 : List UInt8 := [44, 3, 42, 27, 182, 0, 84, 133, 80, 167, 0, 6, 78, 4, 172, 3, 172]
abbrev dktX0_fewest_0 : List UInt8 := dkwX0_fewest_0 ++ []
theorem dksX0_fewest_0 : cX0_fewest.data.toList.drop 0 = dktX0_fewest_0 := by decide +kernel
theorem dX0_fewest_0 : decode cX0_fewest 0 = .ok (.aload_n 2, 1) := dk_44 (dk_at dksX0_fewest_0 0 rfl rfl)
theorem dX0_fewest_1 : decode cX0_fewest 1 = .ok (.iconst 0, 1) := dk_3 (dk_at dksX0_fewest_0 1 rfl rfl)
theorem dX0_fewest_2 : decode cX0_fewest 2 = .ok (.aload_n 0, 1) := dk_42 (dk_at dksX0_fewest_0 2 rfl rfl)
theorem dX0_fewest_3 : decode cX0_fewest 3 = .ok (.iload_n 1, 1) := dk_27 (dk_at dksX0_fewest_0 3 rfl rfl)
theorem dX0_fewest_4 : decode cX0_fewest 4 = .ok (.invokevirtual 84, 3) := dk_182 0 84 (dk_at dksX0_fewest_0 4 rfl rfl)
theorem dX0_fewest_7 : decode cX0_fewest 7 = .ok (.i2l, 1) := dk_133 (dk_at dksX0_fewest_0 7 rfl rfl)
theorem dX0_fewest_8 : decode cX0_fewest 8 = .ok (.lastore, 1) := dk_80 (dk_at dksX0_fewest_0 8 rfl rfl)
theorem dX0_fewest_9 : decode cX0_fewest 9 = .ok (.goto 6, 3) := dk_167 0 6 (dk_at dksX0_fewest_0 9 rfl rfl)
theorem dX0_fewest_12 : decode cX0_fewest 12 = .ok (.astore_n 3, 1) := dk_78 (dk_at dksX0_fewest_0 12 rfl rfl)
theorem dX0_fewest_13 : decode cX0_fewest 13 = .ok (.iconst 1, 1) := dk_4 (dk_at dksX0_fewest_0 13 rfl rfl)
theorem dX0_fewest_14 : decode cX0_fewest 14 = .ok (.ireturn, 1) := dk_172 (dk_at dksX0_fewest_0 14 rfl rfl)
theorem dX0_fewest_15 : decode cX0_fewest 15 = .ok (.iconst 0, 1) := dk_3 (dk_at dksX0_fewest_0 15 rfl rfl)
theorem dX0_fewest_16 : decode cX0_fewest 16 = .ok (.ireturn, 1) := dk_172 (dk_at dksX0_fewest_0 16 rfl rfl)
abbrev cX0_settings : ByteArray := method_25_code
def yX0_settings : MethodName := ⟨RX0, "settings", "(LMirrorDoors;I[J)I"⟩
def dkwX0_settings_0 : List UInt8 := [44, 3, 42, 27, 182, 0, 87, 133, 80, 167, 0, 6, 78, 4, 172, 3, 172]
abbrev dktX0_settings_0 : List UInt8 := dkwX0_settings_0 ++ []
theorem dksX0_settings_0 : cX0_settings.data.toList.drop 0 = dktX0_settings_0 := by decide +kernel
theorem dX0_settings_0 : decode cX0_settings 0 = .ok (.aload_n 2, 1) := dk_44 (dk_at dksX0_settings_0 0 rfl rfl)
theorem dX0_settings_1 : decode cX0_settings 1 = .ok (.iconst 0, 1) := dk_3 (dk_at dksX0_settings_0 1 rfl rfl)
theorem dX0_settings_2 : decode cX0_settings 2 = .ok (.aload_n 0, 1) := dk_42 (dk_at dksX0_settings_0 2 rfl rfl)
theorem dX0_settings_3 : decode cX0_settings 3 = .ok (.iload_n 1, 1) := dk_27 (dk_at dksX0_settings_0 3 rfl rfl)
theorem dX0_settings_4 : decode cX0_settings 4 = .ok (.invokevirtual 87, 3) := dk_182 0 87 (dk_at dksX0_settings_0 4 rfl rfl)
theorem dX0_settings_7 : decode cX0_settings 7 = .ok (.i2l, 1) := dk_133 (dk_at dksX0_settings_0 7 rfl rfl)
theorem dX0_settings_8 : decode cX0_settings 8 = .ok (.lastore, 1) := dk_80 (dk_at dksX0_settings_0 8 rfl rfl)
theorem dX0_settings_9 : decode cX0_settings 9 = .ok (.goto 6, 3) := dk_167 0 6 (dk_at dksX0_settings_0 9 rfl rfl)
theorem dX0_settings_12 : decode cX0_settings 12 = .ok (.astore_n 3, 1) := dk_78 (dk_at dksX0_settings_0 12 rfl rfl)
theorem dX0_settings_13 : decode cX0_settings 13 = .ok (.iconst 1, 1) := dk_4 (dk_at dksX0_settings_0 13 rfl rfl)
theorem dX0_settings_14 : decode cX0_settings 14 = .ok (.ireturn, 1) := dk_172 (dk_at dksX0_settings_0 14 rfl rfl)
theorem dX0_settings_15 : decode cX0_settings 15 = .ok (.iconst 0, 1) := dk_3 (dk_at dksX0_settings_0 15 rfl rfl)
theorem dX0_settings_16 : decode cX0_settings 16 = .ok (.ireturn, 1) := dk_172 (dk_at dksX0_settings_0 16 rfl rfl)
abbrev cX0_worth : ByteArray := method_26_code
def yX0_worth : MethodName := ⟨RX0, "worth", "(LMirrorDoors;I[J)I"⟩
def dkwX0_worth_0 : List UInt8 := [44, 3, 42, 27, 182, 0, 90, 133, 80, 167, 0, 6, 78, 4, 172, 3, 172]
abbrev dktX0_worth_0 : List UInt8 := dkwX0_worth_0 ++ []
theorem dksX0_worth_0 : cX0_worth.data.toList.drop 0 = dktX0_worth_0 := by decide +kernel
theorem dX0_worth_0 : decode cX0_worth 0 = .ok (.aload_n 2, 1) := dk_44 (dk_at dksX0_worth_0 0 rfl rfl)
theorem dX0_worth_1 : decode cX0_worth 1 = .ok (.iconst 0, 1) := dk_3 (dk_at dksX0_worth_0 1 rfl rfl)
theorem dX0_worth_2 : decode cX0_worth 2 = .ok (.aload_n 0, 1) := dk_42 (dk_at dksX0_worth_0 2 rfl rfl)
theorem dX0_worth_3 : decode cX0_worth 3 = .ok (.iload_n 1, 1) := dk_27 (dk_at dksX0_worth_0 3 rfl rfl)
theorem dX0_worth_4 : decode cX0_worth 4 = .ok (.invokevirtual 90, 3) := dk_182 0 90 (dk_at dksX0_worth_0 4 rfl rfl)
theorem dX0_worth_7 : decode cX0_worth 7 = .ok (.i2l, 1) := dk_133 (dk_at dksX0_worth_0 7 rfl rfl)
theorem dX0_worth_8 : decode cX0_worth 8 = .ok (.lastore, 1) := dk_80 (dk_at dksX0_worth_0 8 rfl rfl)
theorem dX0_worth_9 : decode cX0_worth 9 = .ok (.goto 6, 3) := dk_167 0 6 (dk_at dksX0_worth_0 9 rfl rfl)
theorem dX0_worth_12 : decode cX0_worth 12 = .ok (.astore_n 3, 1) := dk_78 (dk_at dksX0_worth_0 12 rfl rfl)
theorem dX0_worth_13 : decode cX0_worth 13 = .ok (.iconst 1, 1) := dk_4 (dk_at dksX0_worth_0 13 rfl rfl)
theorem dX0_worth_14 : decode cX0_worth 14 = .ok (.ireturn, 1) := dk_172 (dk_at dksX0_worth_0 14 rfl rfl)
theorem dX0_worth_15 : decode cX0_worth 15 = .ok (.iconst 0, 1) := dk_3 (dk_at dksX0_worth_0 15 rfl rfl)
theorem dX0_worth_16 : decode cX0_worth 16 = .ok (.ireturn, 1) := dk_172 (dk_at dksX0_worth_0 16 rfl rfl)
abbrev cX0_best : ByteArray := method_27_code
def yX0_best : MethodName := ⟨RX0, "best", "(LMirrorDoors;I[J)I"⟩
def dkwX0_best_0 : List UInt8 := [44, 3, 42, 27, 182, 0, 93, 133, 80, 167, 0, 6, 78, 4, 172, 3, 172]
abbrev dktX0_best_0 : List UInt8 := dkwX0_best_0 ++ []
theorem dksX0_best_0 : cX0_best.data.toList.drop 0 = dktX0_best_0 := by decide +kernel
theorem dX0_best_0 : decode cX0_best 0 = .ok (.aload_n 2, 1) := dk_44 (dk_at dksX0_best_0 0 rfl rfl)
theorem dX0_best_1 : decode cX0_best 1 = .ok (.iconst 0, 1) := dk_3 (dk_at dksX0_best_0 1 rfl rfl)
theorem dX0_best_2 : decode cX0_best 2 = .ok (.aload_n 0, 1) := dk_42 (dk_at dksX0_best_0 2 rfl rfl)
theorem dX0_best_3 : decode cX0_best 3 = .ok (.iload_n 1, 1) := dk_27 (dk_at dksX0_best_0 3 rfl rfl)
theorem dX0_best_4 : decode cX0_best 4 = .ok (.invokevirtual 93, 3) := dk_182 0 93 (dk_at dksX0_best_0 4 rfl rfl)
theorem dX0_best_7 : decode cX0_best 7 = .ok (.i2l, 1) := dk_133 (dk_at dksX0_best_0 7 rfl rfl)
theorem dX0_best_8 : decode cX0_best 8 = .ok (.lastore, 1) := dk_80 (dk_at dksX0_best_0 8 rfl rfl)
theorem dX0_best_9 : decode cX0_best 9 = .ok (.goto 6, 3) := dk_167 0 6 (dk_at dksX0_best_0 9 rfl rfl)
theorem dX0_best_12 : decode cX0_best 12 = .ok (.astore_n 3, 1) := dk_78 (dk_at dksX0_best_0 12 rfl rfl)
theorem dX0_best_13 : decode cX0_best 13 = .ok (.iconst 1, 1) := dk_4 (dk_at dksX0_best_0 13 rfl rfl)
theorem dX0_best_14 : decode cX0_best 14 = .ok (.ireturn, 1) := dk_172 (dk_at dksX0_best_0 14 rfl rfl)
theorem dX0_best_15 : decode cX0_best 15 = .ok (.iconst 0, 1) := dk_3 (dk_at dksX0_best_0 15 rfl rfl)
theorem dX0_best_16 : decode cX0_best 16 = .ok (.ireturn, 1) := dk_172 (dk_at dksX0_best_0 16 rfl rfl)
theorem q110 : (Jvm.Cond.initialized "MirrorDoorsLaw") ∈ lw_all := lw_g (lw_at lw_m1 0 rfl) rfl
theorem q148 : (Jvm.Cond.classLink "MirrorDoorsLaw" (8 : Nat) "MirrorDoors") ∈ lw_all := lw_g (lw_at lw_m1 38 rfl) rfl
theorem q150 : (Jvm.Cond.methodLink "MirrorDoorsLaw" (96 : Nat) ({ cls := "MirrorDoors", name := "<init>", desc := "()V" } : Jvm.MethodName)) ∈ lw_all := lw_g (lw_at lw_m1 40 rfl) rfl
theorem q492 : (Jvm.Cond.methodLink "MirrorDoorsLaw" (100 : Nat) ({ cls := "MirrorDoors", name := "load", desc := "()I" } : Jvm.MethodName)) ∈ lw_all := lw_g (lw_at lw_m2 142 rfl) rfl
theorem q1283 : (Jvm.Cond.methodLink "MirrorDoorsLaw" (142 : Nat) ({ cls := "MirrorDoors", name := "pass", desc := "()I" } : Jvm.MethodName)) ∈ lw_all := lw_g (lw_at lw_m5 213 rfl) rfl
theorem q1329 : (Jvm.Cond.methodLink "MirrorDoorsLaw" (146 : Nat) ({ cls := "MirrorDoors", name := "undo", desc := "()I" } : Jvm.MethodName)) ∈ lw_all := lw_g (lw_at lw_m6 19 rfl) rfl
theorem q1348 : (Jvm.Cond.methodLink "MirrorDoorsLaw" (157 : Nat) ({ cls := "MirrorDoors", name := "append", desc := "(IIIII)I" } : Jvm.MethodName)) ∈ lw_all := lw_g (lw_at lw_m6 38 rfl) rfl
theorem q1356 : (Jvm.Cond.methodLink "MirrorDoorsLaw" (189 : Nat) ({ cls := "MirrorDoors", name := "gap", desc := "()I" } : Jvm.MethodName)) ∈ lw_all := lw_g (lw_at lw_m6 46 rfl) rfl
theorem q1375 : (Jvm.Cond.methodLink "MirrorDoorsLaw" (208 : Nat) ({ cls := "MirrorDoors", name := "litShare", desc := "()F" } : Jvm.MethodName)) ∈ lw_all := lw_g (lw_at lw_m6 65 rfl) rfl
theorem q1384 : (Jvm.Cond.methodLink "MirrorDoorsLaw" (213 : Nat) ({ cls := "MirrorDoors", name := "meanSteps", desc := "()D" } : Jvm.MethodName)) ∈ lw_all := lw_g (lw_at lw_m6 74 rfl) rfl
theorem q1393 : (Jvm.Cond.methodLink "MirrorDoorsLaw" (218 : Nat) ({ cls := "MirrorDoors", name := "writeBoard", desc := "()I" } : Jvm.MethodName)) ∈ lw_all := lw_g (lw_at lw_m6 83 rfl) rfl
theorem q1424 : (Jvm.Cond.methodLink "MirrorDoorsLaw" (222 : Nat) ({ cls := "MirrorDoors", name := "reportByte", desc := "(I)I" } : Jvm.MethodName)) ∈ lw_all := lw_g (lw_at lw_m6 114 rfl) rfl
theorem q1429 : (Jvm.Cond.methodLink "MirrorDoorsLaw" (105 : Nat) ({ cls := "MirrorDoorsLaw", name := "putWall", desc := "(LMirrorDoors;II[J)I" } : Jvm.MethodName)) ∈ lw_all := lw_g (lw_at lw_m6 119 rfl) rfl
theorem q1430 : (Jvm.Cond.static ({ cls := "MirrorDoorsLaw", name := "putWall", desc := "(LMirrorDoors;II[J)I" } : Jvm.MethodName)) ∈ lw_all := lw_g (lw_at lw_m6 120 rfl) rfl
theorem q1431 : (Jvm.Cond.codeWith ({ cls := "MirrorDoorsLaw", name := "putWall", desc := "(LMirrorDoors;II[J)I" } : Jvm.MethodName) method_3_code (5 : Nat) (Option.some Jvm.ClassFile.FieldType.int) [((0 : Nat), (10 : Nat), (13 : Nat), (13 : Nat))]) ∈ lw_all := lw_g (lw_at lw_m6 121 rfl) rfl
theorem q1432 : (Jvm.Cond.classLink "MirrorDoorsLaw" (13 : Nat) "java/lang/IndexOutOfBoundsException") ∈ lw_all := lw_g (lw_at lw_m6 122 rfl) rfl
theorem q1451 : (Jvm.Cond.methodLink "MirrorDoorsLaw" (7 : Nat) ({ cls := "MirrorDoors", name := "putWall", desc := "(II)I" } : Jvm.MethodName)) ∈ lw_all := lw_g (lw_at lw_m6 141 rfl) rfl
theorem q1490 : (Jvm.Cond.methodLink "MirrorDoorsLaw" (114 : Nat) ({ cls := "MirrorDoorsLaw", name := "putMirror", desc := "(LMirrorDoors;IIZII[J)I" } : Jvm.MethodName)) ∈ lw_all := lw_g (lw_at lw_m6 180 rfl) rfl
theorem q1491 : (Jvm.Cond.static ({ cls := "MirrorDoorsLaw", name := "putMirror", desc := "(LMirrorDoors;IIZII[J)I" } : Jvm.MethodName)) ∈ lw_all := lw_g (lw_at lw_m6 181 rfl) rfl
theorem q1492 : (Jvm.Cond.codeWith ({ cls := "MirrorDoorsLaw", name := "putMirror", desc := "(LMirrorDoors;IIZII[J)I" } : Jvm.MethodName) method_4_code (8 : Nat) (Option.some Jvm.ClassFile.FieldType.int) [((0 : Nat), (16 : Nat), (19 : Nat), (13 : Nat)), ((0 : Nat), (16 : Nat), (23 : Nat), (19 : Nat))]) ∈ lw_all := lw_g (lw_at lw_m6 182 rfl) rfl
theorem q1493 : (Jvm.Cond.classLink "MirrorDoorsLaw" (19 : Nat) "java/lang/IllegalArgumentException") ∈ lw_all := lw_g (lw_at lw_m6 183 rfl) rfl
theorem q1494 : (Jvm.Cond.methodLink "MirrorDoorsLaw" (15 : Nat) ({ cls := "MirrorDoors", name := "putMirror", desc := "(IIZII)I" } : Jvm.MethodName)) ∈ lw_all := lw_g (lw_at lw_m6 184 rfl) rfl
theorem q1542 : (Jvm.Cond.methodLink "MirrorDoorsLaw" (118 : Nat) ({ cls := "MirrorDoorsLaw", name := "putDoor", desc := "(LMirrorDoors;III[J)I" } : Jvm.MethodName)) ∈ lw_all := lw_g (lw_at lw_m6 232 rfl) rfl
theorem q1543 : (Jvm.Cond.static ({ cls := "MirrorDoorsLaw", name := "putDoor", desc := "(LMirrorDoors;III[J)I" } : Jvm.MethodName)) ∈ lw_all := lw_g (lw_at lw_m6 233 rfl) rfl
theorem q1544 : (Jvm.Cond.codeWith ({ cls := "MirrorDoorsLaw", name := "putDoor", desc := "(LMirrorDoors;III[J)I" } : Jvm.MethodName) method_5_code (6 : Nat) (Option.some Jvm.ClassFile.FieldType.int) [((0 : Nat), (12 : Nat), (15 : Nat), (13 : Nat)), ((0 : Nat), (12 : Nat), (19 : Nat), (19 : Nat))]) ∈ lw_all := lw_g (lw_at lw_m6 234 rfl) rfl
theorem q1545 : (Jvm.Cond.methodLink "MirrorDoorsLaw" (21 : Nat) ({ cls := "MirrorDoors", name := "putDoor", desc := "(III)I" } : Jvm.MethodName)) ∈ lw_all := lw_g (lw_at lw_m6 235 rfl) rfl
theorem q1549 : (Jvm.Cond.methodLink "MirrorDoorsLaw" (122 : Nat) ({ cls := "MirrorDoorsLaw", name := "putGate", desc := "(LMirrorDoors;III[J)I" } : Jvm.MethodName)) ∈ lw_all := lw_g (lw_at lw_m6 239 rfl) rfl
theorem q1550 : (Jvm.Cond.static ({ cls := "MirrorDoorsLaw", name := "putGate", desc := "(LMirrorDoors;III[J)I" } : Jvm.MethodName)) ∈ lw_all := lw_g (lw_at lw_m7 0 rfl) rfl
theorem q1551 : (Jvm.Cond.codeWith ({ cls := "MirrorDoorsLaw", name := "putGate", desc := "(LMirrorDoors;III[J)I" } : Jvm.MethodName) method_6_code (6 : Nat) (Option.some Jvm.ClassFile.FieldType.int) [((0 : Nat), (12 : Nat), (15 : Nat), (13 : Nat)), ((0 : Nat), (12 : Nat), (19 : Nat), (19 : Nat))]) ∈ lw_all := lw_g (lw_at lw_m7 1 rfl) rfl
theorem q1552 : (Jvm.Cond.methodLink "MirrorDoorsLaw" (25 : Nat) ({ cls := "MirrorDoors", name := "putGate", desc := "(III)I" } : Jvm.MethodName)) ∈ lw_all := lw_g (lw_at lw_m7 2 rfl) rfl
theorem q1558 : (Jvm.Cond.methodLink "MirrorDoorsLaw" (125 : Nat) ({ cls := "MirrorDoorsLaw", name := "putPortals", desc := "(LMirrorDoors;IIII[J)I" } : Jvm.MethodName)) ∈ lw_all := lw_g (lw_at lw_m7 8 rfl) rfl
theorem q1559 : (Jvm.Cond.static ({ cls := "MirrorDoorsLaw", name := "putPortals", desc := "(LMirrorDoors;IIII[J)I" } : Jvm.MethodName)) ∈ lw_all := lw_g (lw_at lw_m7 9 rfl) rfl
theorem q1560 : (Jvm.Cond.codeWith ({ cls := "MirrorDoorsLaw", name := "putPortals", desc := "(LMirrorDoors;IIII[J)I" } : Jvm.MethodName) method_7_code (7 : Nat) (Option.some Jvm.ClassFile.FieldType.int) [((0 : Nat), (14 : Nat), (17 : Nat), (13 : Nat)), ((0 : Nat), (14 : Nat), (21 : Nat), (19 : Nat))]) ∈ lw_all := lw_g (lw_at lw_m7 10 rfl) rfl
theorem q1561 : (Jvm.Cond.methodLink "MirrorDoorsLaw" (28 : Nat) ({ cls := "MirrorDoors", name := "putPortals", desc := "(IIII)I" } : Jvm.MethodName)) ∈ lw_all := lw_g (lw_at lw_m7 11 rfl) rfl
theorem q1567 : (Jvm.Cond.methodLink "MirrorDoorsLaw" (129 : Nat) ({ cls := "MirrorDoorsLaw", name := "clear", desc := "(LMirrorDoors;II[J)I" } : Jvm.MethodName)) ∈ lw_all := lw_g (lw_at lw_m7 17 rfl) rfl
theorem q1568 : (Jvm.Cond.static ({ cls := "MirrorDoorsLaw", name := "clear", desc := "(LMirrorDoors;II[J)I" } : Jvm.MethodName)) ∈ lw_all := lw_g (lw_at lw_m7 18 rfl) rfl
theorem q1569 : (Jvm.Cond.codeWith ({ cls := "MirrorDoorsLaw", name := "clear", desc := "(LMirrorDoors;II[J)I" } : Jvm.MethodName) method_8_code (5 : Nat) (Option.some Jvm.ClassFile.FieldType.int) [((0 : Nat), (10 : Nat), (13 : Nat), (13 : Nat))]) ∈ lw_all := lw_g (lw_at lw_m7 19 rfl) rfl
theorem q1570 : (Jvm.Cond.methodLink "MirrorDoorsLaw" (32 : Nat) ({ cls := "MirrorDoors", name := "clear", desc := "(II)I" } : Jvm.MethodName)) ∈ lw_all := lw_g (lw_at lw_m7 20 rfl) rfl
theorem q1576 : (Jvm.Cond.methodLink "MirrorDoorsLaw" (132 : Nat) ({ cls := "MirrorDoorsLaw", name := "setLamp", desc := "(LMirrorDoors;III[J)I" } : Jvm.MethodName)) ∈ lw_all := lw_g (lw_at lw_m7 26 rfl) rfl
theorem q1577 : (Jvm.Cond.static ({ cls := "MirrorDoorsLaw", name := "setLamp", desc := "(LMirrorDoors;III[J)I" } : Jvm.MethodName)) ∈ lw_all := lw_g (lw_at lw_m7 27 rfl) rfl
theorem q1578 : (Jvm.Cond.codeWith ({ cls := "MirrorDoorsLaw", name := "setLamp", desc := "(LMirrorDoors;III[J)I" } : Jvm.MethodName) method_9_code (6 : Nat) (Option.some Jvm.ClassFile.FieldType.int) [((0 : Nat), (12 : Nat), (15 : Nat), (13 : Nat)), ((0 : Nat), (12 : Nat), (19 : Nat), (19 : Nat))]) ∈ lw_all := lw_g (lw_at lw_m7 28 rfl) rfl
theorem q1579 : (Jvm.Cond.methodLink "MirrorDoorsLaw" (35 : Nat) ({ cls := "MirrorDoors", name := "setLamp", desc := "(III)I" } : Jvm.MethodName)) ∈ lw_all := lw_g (lw_at lw_m7 29 rfl) rfl
theorem q1585 : (Jvm.Cond.methodLink "MirrorDoorsLaw" (135 : Nat) ({ cls := "MirrorDoorsLaw", name := "set", desc := "(LMirrorDoors;ZI[J)I" } : Jvm.MethodName)) ∈ lw_all := lw_g (lw_at lw_m7 35 rfl) rfl
theorem q1586 : (Jvm.Cond.static ({ cls := "MirrorDoorsLaw", name := "set", desc := "(LMirrorDoors;ZI[J)I" } : Jvm.MethodName)) ∈ lw_all := lw_g (lw_at lw_m7 36 rfl) rfl
theorem q1587 : (Jvm.Cond.codeWith ({ cls := "MirrorDoorsLaw", name := "set", desc := "(LMirrorDoors;ZI[J)I" } : Jvm.MethodName) method_10_code (5 : Nat) (Option.some Jvm.ClassFile.FieldType.int) [((0 : Nat), (10 : Nat), (13 : Nat), (19 : Nat))]) ∈ lw_all := lw_g (lw_at lw_m7 37 rfl) rfl
theorem q1588 : (Jvm.Cond.methodLink "MirrorDoorsLaw" (38 : Nat) ({ cls := "MirrorDoors", name := "set", desc := "(ZI)I" } : Jvm.MethodName)) ∈ lw_all := lw_g (lw_at lw_m7 38 rfl) rfl
theorem q1592 : (Jvm.Cond.methodLink "MirrorDoorsLaw" (139 : Nat) ({ cls := "MirrorDoorsLaw", name := "turn", desc := "(LMirrorDoors;II[J)I" } : Jvm.MethodName)) ∈ lw_all := lw_g (lw_at lw_m7 42 rfl) rfl
theorem q1593 : (Jvm.Cond.static ({ cls := "MirrorDoorsLaw", name := "turn", desc := "(LMirrorDoors;II[J)I" } : Jvm.MethodName)) ∈ lw_all := lw_g (lw_at lw_m7 43 rfl) rfl
theorem q1594 : (Jvm.Cond.codeWith ({ cls := "MirrorDoorsLaw", name := "turn", desc := "(LMirrorDoors;II[J)I" } : Jvm.MethodName) method_11_code (5 : Nat) (Option.some Jvm.ClassFile.FieldType.int) [((0 : Nat), (10 : Nat), (13 : Nat), (13 : Nat))]) ∈ lw_all := lw_g (lw_at lw_m7 44 rfl) rfl
theorem q1595 : (Jvm.Cond.methodLink "MirrorDoorsLaw" (42 : Nat) ({ cls := "MirrorDoors", name := "turn", desc := "(II)I" } : Jvm.MethodName)) ∈ lw_all := lw_g (lw_at lw_m7 45 rfl) rfl
theorem q1600 : (Jvm.Cond.methodLink "MirrorDoorsLaw" (150 : Nat) ({ cls := "MirrorDoorsLaw", name := "keep", desc := "(LMirrorDoors;I[J)I" } : Jvm.MethodName)) ∈ lw_all := lw_g (lw_at lw_m7 50 rfl) rfl
theorem q1601 : (Jvm.Cond.static ({ cls := "MirrorDoorsLaw", name := "keep", desc := "(LMirrorDoors;I[J)I" } : Jvm.MethodName)) ∈ lw_all := lw_g (lw_at lw_m7 51 rfl) rfl
theorem q1602 : (Jvm.Cond.codeWith ({ cls := "MirrorDoorsLaw", name := "keep", desc := "(LMirrorDoors;I[J)I" } : Jvm.MethodName) method_12_code (4 : Nat) (Option.some Jvm.ClassFile.FieldType.int) [((0 : Nat), (9 : Nat), (12 : Nat), (19 : Nat))]) ∈ lw_all := lw_g (lw_at lw_m7 52 rfl) rfl
theorem q1603 : (Jvm.Cond.methodLink "MirrorDoorsLaw" (45 : Nat) ({ cls := "MirrorDoors", name := "keep", desc := "(I)I" } : Jvm.MethodName)) ∈ lw_all := lw_g (lw_at lw_m7 53 rfl) rfl
theorem q1607 : (Jvm.Cond.methodLink "MirrorDoorsLaw" (154 : Nat) ({ cls := "MirrorDoorsLaw", name := "restore", desc := "(LMirrorDoors;I[J)I" } : Jvm.MethodName)) ∈ lw_all := lw_g (lw_at lw_m7 57 rfl) rfl
theorem q1608 : (Jvm.Cond.static ({ cls := "MirrorDoorsLaw", name := "restore", desc := "(LMirrorDoors;I[J)I" } : Jvm.MethodName)) ∈ lw_all := lw_g (lw_at lw_m7 58 rfl) rfl
theorem q1609 : (Jvm.Cond.codeWith ({ cls := "MirrorDoorsLaw", name := "restore", desc := "(LMirrorDoors;I[J)I" } : Jvm.MethodName) method_13_code (4 : Nat) (Option.some Jvm.ClassFile.FieldType.int) [((0 : Nat), (9 : Nat), (12 : Nat), (19 : Nat))]) ∈ lw_all := lw_g (lw_at lw_m7 59 rfl) rfl
theorem q1610 : (Jvm.Cond.methodLink "MirrorDoorsLaw" (49 : Nat) ({ cls := "MirrorDoors", name := "restore", desc := "(I)I" } : Jvm.MethodName)) ∈ lw_all := lw_g (lw_at lw_m7 60 rfl) rfl
theorem q1621 : (Jvm.Cond.methodLink "MirrorDoorsLaw" (162 : Nat) ({ cls := "MirrorDoorsLaw", name := "truncate", desc := "(LMirrorDoors;I[J)I" } : Jvm.MethodName)) ∈ lw_all := lw_g (lw_at lw_m7 71 rfl) rfl
theorem q1622 : (Jvm.Cond.static ({ cls := "MirrorDoorsLaw", name := "truncate", desc := "(LMirrorDoors;I[J)I" } : Jvm.MethodName)) ∈ lw_all := lw_g (lw_at lw_m7 72 rfl) rfl
theorem q1623 : (Jvm.Cond.codeWith ({ cls := "MirrorDoorsLaw", name := "truncate", desc := "(LMirrorDoors;I[J)I" } : Jvm.MethodName) method_14_code (4 : Nat) (Option.some Jvm.ClassFile.FieldType.int) [((0 : Nat), (9 : Nat), (12 : Nat), (19 : Nat))]) ∈ lw_all := lw_g (lw_at lw_m7 73 rfl) rfl
theorem q1624 : (Jvm.Cond.methodLink "MirrorDoorsLaw" (52 : Nat) ({ cls := "MirrorDoors", name := "truncate", desc := "(I)I" } : Jvm.MethodName)) ∈ lw_all := lw_g (lw_at lw_m7 74 rfl) rfl
theorem q1628 : (Jvm.Cond.methodLink "MirrorDoorsLaw" (165 : Nat) ({ cls := "MirrorDoorsLaw", name := "board", desc := "(LMirrorDoors;I[J)I" } : Jvm.MethodName)) ∈ lw_all := lw_g (lw_at lw_m7 78 rfl) rfl
theorem q1629 : (Jvm.Cond.static ({ cls := "MirrorDoorsLaw", name := "board", desc := "(LMirrorDoors;I[J)I" } : Jvm.MethodName)) ∈ lw_all := lw_g (lw_at lw_m7 79 rfl) rfl
theorem q1630 : (Jvm.Cond.codeWith ({ cls := "MirrorDoorsLaw", name := "board", desc := "(LMirrorDoors;I[J)I" } : Jvm.MethodName) method_15_code (4 : Nat) (Option.some Jvm.ClassFile.FieldType.int) [((0 : Nat), (9 : Nat), (12 : Nat), (19 : Nat))]) ∈ lw_all := lw_g (lw_at lw_m7 80 rfl) rfl
theorem q1631 : (Jvm.Cond.methodLink "MirrorDoorsLaw" (55 : Nat) ({ cls := "MirrorDoors", name := "board", desc := "(I)I" } : Jvm.MethodName)) ∈ lw_all := lw_g (lw_at lw_m7 81 rfl) rfl
theorem q1640 : (Jvm.Cond.methodLink "MirrorDoorsLaw" (168 : Nat) ({ cls := "MirrorDoorsLaw", name := "cell", desc := "(LMirrorDoors;III[J)I" } : Jvm.MethodName)) ∈ lw_all := lw_g (lw_at lw_m7 90 rfl) rfl
theorem q1641 : (Jvm.Cond.static ({ cls := "MirrorDoorsLaw", name := "cell", desc := "(LMirrorDoors;III[J)I" } : Jvm.MethodName)) ∈ lw_all := lw_g (lw_at lw_m7 91 rfl) rfl
theorem q1642 : (Jvm.Cond.codeWith ({ cls := "MirrorDoorsLaw", name := "cell", desc := "(LMirrorDoors;III[J)I" } : Jvm.MethodName) method_16_code (6 : Nat) (Option.some Jvm.ClassFile.FieldType.int) [((0 : Nat), (12 : Nat), (15 : Nat), (13 : Nat)), ((0 : Nat), (12 : Nat), (19 : Nat), (19 : Nat))]) ∈ lw_all := lw_g (lw_at lw_m7 92 rfl) rfl
theorem q1643 : (Jvm.Cond.methodLink "MirrorDoorsLaw" (58 : Nat) ({ cls := "MirrorDoors", name := "cell", desc := "(III)I" } : Jvm.MethodName)) ∈ lw_all := lw_g (lw_at lw_m7 93 rfl) rfl
theorem q1648 : (Jvm.Cond.methodLink "MirrorDoorsLaw" (171 : Nat) ({ cls := "MirrorDoorsLaw", name := "mirror", desc := "(LMirrorDoors;II[J)I" } : Jvm.MethodName)) ∈ lw_all := lw_g (lw_at lw_m7 98 rfl) rfl
theorem q1649 : (Jvm.Cond.static ({ cls := "MirrorDoorsLaw", name := "mirror", desc := "(LMirrorDoors;II[J)I" } : Jvm.MethodName)) ∈ lw_all := lw_g (lw_at lw_m7 99 rfl) rfl
theorem q1650 : (Jvm.Cond.codeWith ({ cls := "MirrorDoorsLaw", name := "mirror", desc := "(LMirrorDoors;II[J)I" } : Jvm.MethodName) method_17_code (5 : Nat) (Option.some Jvm.ClassFile.FieldType.int) [((0 : Nat), (10 : Nat), (13 : Nat), (64 : Nat)), ((0 : Nat), (10 : Nat), (17 : Nat), (19 : Nat))]) ∈ lw_all := lw_g (lw_at lw_m7 100 rfl) rfl
theorem q1651 : (Jvm.Cond.classLink "MirrorDoorsLaw" (64 : Nat) "java/util/NoSuchElementException") ∈ lw_all := lw_g (lw_at lw_m7 101 rfl) rfl
theorem q1652 : (Jvm.Cond.methodLink "MirrorDoorsLaw" (61 : Nat) ({ cls := "MirrorDoors", name := "mirror", desc := "(II)I" } : Jvm.MethodName)) ∈ lw_all := lw_g (lw_at lw_m7 102 rfl) rfl
theorem q1684 : (Jvm.Cond.methodLink "MirrorDoorsLaw" (174 : Nat) ({ cls := "MirrorDoorsLaw", name := "door", desc := "(LMirrorDoors;II[J)I" } : Jvm.MethodName)) ∈ lw_all := lw_g (lw_at lw_m7 134 rfl) rfl
theorem q1685 : (Jvm.Cond.static ({ cls := "MirrorDoorsLaw", name := "door", desc := "(LMirrorDoors;II[J)I" } : Jvm.MethodName)) ∈ lw_all := lw_g (lw_at lw_m7 135 rfl) rfl
theorem q1686 : (Jvm.Cond.codeWith ({ cls := "MirrorDoorsLaw", name := "door", desc := "(LMirrorDoors;II[J)I" } : Jvm.MethodName) method_18_code (5 : Nat) (Option.some Jvm.ClassFile.FieldType.int) [((0 : Nat), (10 : Nat), (13 : Nat), (64 : Nat)), ((0 : Nat), (10 : Nat), (17 : Nat), (19 : Nat))]) ∈ lw_all := lw_g (lw_at lw_m7 136 rfl) rfl
theorem q1687 : (Jvm.Cond.methodLink "MirrorDoorsLaw" (66 : Nat) ({ cls := "MirrorDoors", name := "door", desc := "(II)I" } : Jvm.MethodName)) ∈ lw_all := lw_g (lw_at lw_m7 137 rfl) rfl
theorem q1691 : (Jvm.Cond.methodLink "MirrorDoorsLaw" (177 : Nat) ({ cls := "MirrorDoorsLaw", name := "ray", desc := "(LMirrorDoors;I[J)I" } : Jvm.MethodName)) ∈ lw_all := lw_g (lw_at lw_m7 141 rfl) rfl
theorem q1692 : (Jvm.Cond.static ({ cls := "MirrorDoorsLaw", name := "ray", desc := "(LMirrorDoors;I[J)I" } : Jvm.MethodName)) ∈ lw_all := lw_g (lw_at lw_m7 142 rfl) rfl
theorem q1693 : (Jvm.Cond.codeWith ({ cls := "MirrorDoorsLaw", name := "ray", desc := "(LMirrorDoors;I[J)I" } : Jvm.MethodName) method_19_code (4 : Nat) (Option.some Jvm.ClassFile.FieldType.int) [((0 : Nat), (9 : Nat), (12 : Nat), (19 : Nat))]) ∈ lw_all := lw_g (lw_at lw_m7 143 rfl) rfl
theorem q1694 : (Jvm.Cond.methodLink "MirrorDoorsLaw" (69 : Nat) ({ cls := "MirrorDoors", name := "ray", desc := "(I)I" } : Jvm.MethodName)) ∈ lw_all := lw_g (lw_at lw_m7 144 rfl) rfl
theorem q1720 : (Jvm.Cond.methodLink "MirrorDoorsLaw" (180 : Nat) ({ cls := "MirrorDoorsLaw", name := "beam", desc := "(LMirrorDoors;II[J)I" } : Jvm.MethodName)) ∈ lw_all := lw_g (lw_at lw_m7 170 rfl) rfl
theorem q1721 : (Jvm.Cond.static ({ cls := "MirrorDoorsLaw", name := "beam", desc := "(LMirrorDoors;II[J)I" } : Jvm.MethodName)) ∈ lw_all := lw_g (lw_at lw_m7 171 rfl) rfl
theorem q1722 : (Jvm.Cond.codeWith ({ cls := "MirrorDoorsLaw", name := "beam", desc := "(LMirrorDoors;II[J)I" } : Jvm.MethodName) method_20_code (5 : Nat) (Option.some Jvm.ClassFile.FieldType.int) [((0 : Nat), (10 : Nat), (13 : Nat), (64 : Nat)), ((0 : Nat), (10 : Nat), (17 : Nat), (19 : Nat))]) ∈ lw_all := lw_g (lw_at lw_m7 172 rfl) rfl
theorem q1723 : (Jvm.Cond.methodLink "MirrorDoorsLaw" (72 : Nat) ({ cls := "MirrorDoors", name := "beam", desc := "(II)I" } : Jvm.MethodName)) ∈ lw_all := lw_g (lw_at lw_m7 173 rfl) rfl
theorem q1729 : (Jvm.Cond.methodLink "MirrorDoorsLaw" (183 : Nat) ({ cls := "MirrorDoorsLaw", name := "stepsTo", desc := "(LMirrorDoors;I[J)I" } : Jvm.MethodName)) ∈ lw_all := lw_g (lw_at lw_m7 179 rfl) rfl
theorem q1730 : (Jvm.Cond.static ({ cls := "MirrorDoorsLaw", name := "stepsTo", desc := "(LMirrorDoors;I[J)I" } : Jvm.MethodName)) ∈ lw_all := lw_g (lw_at lw_m7 180 rfl) rfl
theorem q1731 : (Jvm.Cond.codeWith ({ cls := "MirrorDoorsLaw", name := "stepsTo", desc := "(LMirrorDoors;I[J)I" } : Jvm.MethodName) method_21_code (4 : Nat) (Option.some Jvm.ClassFile.FieldType.int) [((0 : Nat), (9 : Nat), (12 : Nat), (64 : Nat))]) ∈ lw_all := lw_g (lw_at lw_m7 181 rfl) rfl
theorem q1732 : (Jvm.Cond.methodLink "MirrorDoorsLaw" (75 : Nat) ({ cls := "MirrorDoors", name := "stepsTo", desc := "(I)I" } : Jvm.MethodName)) ∈ lw_all := lw_g (lw_at lw_m7 182 rfl) rfl
theorem q1736 : (Jvm.Cond.methodLink "MirrorDoorsLaw" (186 : Nat) ({ cls := "MirrorDoorsLaw", name := "whyNot", desc := "(LMirrorDoors;III[J)I" } : Jvm.MethodName)) ∈ lw_all := lw_g (lw_at lw_m7 186 rfl) rfl
theorem q1737 : (Jvm.Cond.static ({ cls := "MirrorDoorsLaw", name := "whyNot", desc := "(LMirrorDoors;III[J)I" } : Jvm.MethodName)) ∈ lw_all := lw_g (lw_at lw_m7 187 rfl) rfl
theorem q1738 : (Jvm.Cond.codeWith ({ cls := "MirrorDoorsLaw", name := "whyNot", desc := "(LMirrorDoors;III[J)I" } : Jvm.MethodName) method_22_code (6 : Nat) (Option.some Jvm.ClassFile.FieldType.int) [((0 : Nat), (12 : Nat), (15 : Nat), (13 : Nat)), ((0 : Nat), (12 : Nat), (19 : Nat), (19 : Nat))]) ∈ lw_all := lw_g (lw_at lw_m7 188 rfl) rfl
theorem q1739 : (Jvm.Cond.methodLink "MirrorDoorsLaw" (78 : Nat) ({ cls := "MirrorDoors", name := "whyNot", desc := "(III)I" } : Jvm.MethodName)) ∈ lw_all := lw_g (lw_at lw_m7 189 rfl) rfl
theorem q1743 : (Jvm.Cond.methodLink "MirrorDoorsLaw" (193 : Nat) ({ cls := "MirrorDoorsLaw", name := "hitIf", desc := "(LMirrorDoors;I[J)I" } : Jvm.MethodName)) ∈ lw_all := lw_g (lw_at lw_m7 193 rfl) rfl
theorem q1744 : (Jvm.Cond.static ({ cls := "MirrorDoorsLaw", name := "hitIf", desc := "(LMirrorDoors;I[J)I" } : Jvm.MethodName)) ∈ lw_all := lw_g (lw_at lw_m7 194 rfl) rfl
theorem q1745 : (Jvm.Cond.codeWith ({ cls := "MirrorDoorsLaw", name := "hitIf", desc := "(LMirrorDoors;I[J)I" } : Jvm.MethodName) method_23_code (4 : Nat) (Option.some Jvm.ClassFile.FieldType.int) [((0 : Nat), (9 : Nat), (12 : Nat), (64 : Nat))]) ∈ lw_all := lw_g (lw_at lw_m7 195 rfl) rfl
theorem q1746 : (Jvm.Cond.methodLink "MirrorDoorsLaw" (81 : Nat) ({ cls := "MirrorDoors", name := "hitIf", desc := "(I)I" } : Jvm.MethodName)) ∈ lw_all := lw_g (lw_at lw_m7 196 rfl) rfl
theorem q1756 : (Jvm.Cond.methodLink "MirrorDoorsLaw" (196 : Nat) ({ cls := "MirrorDoorsLaw", name := "fewest", desc := "(LMirrorDoors;I[J)I" } : Jvm.MethodName)) ∈ lw_all := lw_g (lw_at lw_m7 206 rfl) rfl
theorem q1757 : (Jvm.Cond.static ({ cls := "MirrorDoorsLaw", name := "fewest", desc := "(LMirrorDoors;I[J)I" } : Jvm.MethodName)) ∈ lw_all := lw_g (lw_at lw_m7 207 rfl) rfl
theorem q1758 : (Jvm.Cond.codeWith ({ cls := "MirrorDoorsLaw", name := "fewest", desc := "(LMirrorDoors;I[J)I" } : Jvm.MethodName) method_24_code (4 : Nat) (Option.some Jvm.ClassFile.FieldType.int) [((0 : Nat), (9 : Nat), (12 : Nat), (64 : Nat))]) ∈ lw_all := lw_g (lw_at lw_m7 208 rfl) rfl
theorem q1759 : (Jvm.Cond.methodLink "MirrorDoorsLaw" (84 : Nat) ({ cls := "MirrorDoors", name := "fewest", desc := "(I)I" } : Jvm.MethodName)) ∈ lw_all := lw_g (lw_at lw_m7 209 rfl) rfl
theorem q1767 : (Jvm.Cond.methodLink "MirrorDoorsLaw" (199 : Nat) ({ cls := "MirrorDoorsLaw", name := "settings", desc := "(LMirrorDoors;I[J)I" } : Jvm.MethodName)) ∈ lw_all := lw_g (lw_at lw_m7 217 rfl) rfl
theorem q1768 : (Jvm.Cond.static ({ cls := "MirrorDoorsLaw", name := "settings", desc := "(LMirrorDoors;I[J)I" } : Jvm.MethodName)) ∈ lw_all := lw_g (lw_at lw_m7 218 rfl) rfl
theorem q1769 : (Jvm.Cond.codeWith ({ cls := "MirrorDoorsLaw", name := "settings", desc := "(LMirrorDoors;I[J)I" } : Jvm.MethodName) method_25_code (4 : Nat) (Option.some Jvm.ClassFile.FieldType.int) [((0 : Nat), (9 : Nat), (12 : Nat), (64 : Nat))]) ∈ lw_all := lw_g (lw_at lw_m7 219 rfl) rfl
theorem q1770 : (Jvm.Cond.methodLink "MirrorDoorsLaw" (87 : Nat) ({ cls := "MirrorDoors", name := "settings", desc := "(I)I" } : Jvm.MethodName)) ∈ lw_all := lw_g (lw_at lw_m7 220 rfl) rfl
theorem q1774 : (Jvm.Cond.methodLink "MirrorDoorsLaw" (202 : Nat) ({ cls := "MirrorDoorsLaw", name := "worth", desc := "(LMirrorDoors;I[J)I" } : Jvm.MethodName)) ∈ lw_all := lw_g (lw_at lw_m7 224 rfl) rfl
theorem q1775 : (Jvm.Cond.static ({ cls := "MirrorDoorsLaw", name := "worth", desc := "(LMirrorDoors;I[J)I" } : Jvm.MethodName)) ∈ lw_all := lw_g (lw_at lw_m7 225 rfl) rfl
theorem q1776 : (Jvm.Cond.codeWith ({ cls := "MirrorDoorsLaw", name := "worth", desc := "(LMirrorDoors;I[J)I" } : Jvm.MethodName) method_26_code (4 : Nat) (Option.some Jvm.ClassFile.FieldType.int) [((0 : Nat), (9 : Nat), (12 : Nat), (19 : Nat))]) ∈ lw_all := lw_g (lw_at lw_m7 226 rfl) rfl
theorem q1777 : (Jvm.Cond.methodLink "MirrorDoorsLaw" (90 : Nat) ({ cls := "MirrorDoors", name := "worth", desc := "(I)I" } : Jvm.MethodName)) ∈ lw_all := lw_g (lw_at lw_m7 227 rfl) rfl
theorem q1801 : (Jvm.Cond.methodLink "MirrorDoorsLaw" (205 : Nat) ({ cls := "MirrorDoorsLaw", name := "best", desc := "(LMirrorDoors;I[J)I" } : Jvm.MethodName)) ∈ lw_all := lw_g (lw_at lw_m8 11 rfl) rfl
theorem q1802 : (Jvm.Cond.static ({ cls := "MirrorDoorsLaw", name := "best", desc := "(LMirrorDoors;I[J)I" } : Jvm.MethodName)) ∈ lw_all := lw_g (lw_at lw_m8 12 rfl) rfl
theorem q1803 : (Jvm.Cond.codeWith ({ cls := "MirrorDoorsLaw", name := "best", desc := "(LMirrorDoors;I[J)I" } : Jvm.MethodName) method_27_code (4 : Nat) (Option.some Jvm.ClassFile.FieldType.int) [((0 : Nat), (9 : Nat), (12 : Nat), (19 : Nat))]) ∈ lw_all := lw_g (lw_at lw_m8 13 rfl) rfl
theorem q1804 : (Jvm.Cond.methodLink "MirrorDoorsLaw" (93 : Nat) ({ cls := "MirrorDoors", name := "best", desc := "(I)I" } : Jvm.MethodName)) ∈ lw_all := lw_g (lw_at lw_m8 14 rfl) rfl
theorem q1809 : (Jvm.Cond.classLink "MirrorDoorsLaw" (97 : Nat) "MirrorDoorsModel") ∈ lw_all := lw_g (lw_at lw_m8 19 rfl) rfl
theorem q1811 : (Jvm.Cond.methodLink "MirrorDoorsLaw" (99 : Nat) ({ cls := "MirrorDoorsModel", name := "<init>", desc := "()V" } : Jvm.MethodName)) ∈ lw_all := lw_g (lw_at lw_m8 21 rfl) rfl
theorem q1999 : (Jvm.Cond.methodLink "MirrorDoorsLaw" (111 : Nat) ({ cls := "MirrorDoorsModel", name := "thrown", desc := "()I" } : Jvm.MethodName)) ∈ lw_all := lw_g (lw_at lw_m8 209 rfl) rfl
theorem q2003 : (Jvm.Cond.methodLink "MirrorDoorsLaw" (110 : Nat) ({ cls := "MirrorDoorsModel", name := "putWall", desc := "(II)I" } : Jvm.MethodName)) ∈ lw_all := lw_g (lw_at lw_m8 213 rfl) rfl
theorem q2026 : (Jvm.Cond.methodLink "MirrorDoorsLaw" (117 : Nat) ({ cls := "MirrorDoorsModel", name := "putMirror", desc := "(IIZII)I" } : Jvm.MethodName)) ∈ lw_all := lw_g (lw_at lw_m8 236 rfl) rfl
theorem q2038 : (Jvm.Cond.methodLink "MirrorDoorsLaw" (121 : Nat) ({ cls := "MirrorDoorsModel", name := "putDoor", desc := "(III)I" } : Jvm.MethodName)) ∈ lw_all := lw_g (lw_at lw_m9 8 rfl) rfl
theorem q2042 : (Jvm.Cond.methodLink "MirrorDoorsLaw" (124 : Nat) ({ cls := "MirrorDoorsModel", name := "putGate", desc := "(III)I" } : Jvm.MethodName)) ∈ lw_all := lw_g (lw_at lw_m9 12 rfl) rfl
theorem q2046 : (Jvm.Cond.methodLink "MirrorDoorsLaw" (128 : Nat) ({ cls := "MirrorDoorsModel", name := "putPortals", desc := "(IIII)I" } : Jvm.MethodName)) ∈ lw_all := lw_g (lw_at lw_m9 16 rfl) rfl
theorem q2054 : (Jvm.Cond.methodLink "MirrorDoorsLaw" (131 : Nat) ({ cls := "MirrorDoorsModel", name := "clear", desc := "(II)I" } : Jvm.MethodName)) ∈ lw_all := lw_g (lw_at lw_m9 24 rfl) rfl
theorem q2058 : (Jvm.Cond.methodLink "MirrorDoorsLaw" (134 : Nat) ({ cls := "MirrorDoorsModel", name := "setLamp", desc := "(III)I" } : Jvm.MethodName)) ∈ lw_all := lw_g (lw_at lw_m9 28 rfl) rfl
theorem q2062 : (Jvm.Cond.methodLink "MirrorDoorsLaw" (138 : Nat) ({ cls := "MirrorDoorsModel", name := "set", desc := "(ZI)I" } : Jvm.MethodName)) ∈ lw_all := lw_g (lw_at lw_m9 32 rfl) rfl
theorem q2066 : (Jvm.Cond.methodLink "MirrorDoorsLaw" (141 : Nat) ({ cls := "MirrorDoorsModel", name := "turn", desc := "(II)I" } : Jvm.MethodName)) ∈ lw_all := lw_g (lw_at lw_m9 36 rfl) rfl
theorem q2094 : (Jvm.Cond.methodLink "MirrorDoorsLaw" (145 : Nat) ({ cls := "MirrorDoorsModel", name := "pass", desc := "()I" } : Jvm.MethodName)) ∈ lw_all := lw_g (lw_at lw_m9 64 rfl) rfl
theorem q2102 : (Jvm.Cond.methodLink "MirrorDoorsLaw" (149 : Nat) ({ cls := "MirrorDoorsModel", name := "undo", desc := "()I" } : Jvm.MethodName)) ∈ lw_all := lw_g (lw_at lw_m9 72 rfl) rfl
theorem q2106 : (Jvm.Cond.methodLink "MirrorDoorsLaw" (153 : Nat) ({ cls := "MirrorDoorsModel", name := "keep", desc := "(I)I" } : Jvm.MethodName)) ∈ lw_all := lw_g (lw_at lw_m9 76 rfl) rfl
theorem q2110 : (Jvm.Cond.methodLink "MirrorDoorsLaw" (156 : Nat) ({ cls := "MirrorDoorsModel", name := "restore", desc := "(I)I" } : Jvm.MethodName)) ∈ lw_all := lw_g (lw_at lw_m9 80 rfl) rfl
theorem q2114 : (Jvm.Cond.methodLink "MirrorDoorsLaw" (104 : Nat) ({ cls := "MirrorDoorsModel", name := "load", desc := "()I" } : Jvm.MethodName)) ∈ lw_all := lw_g (lw_at lw_m9 84 rfl) rfl
theorem q2198 : (Jvm.Cond.methodLink "MirrorDoorsLaw" (161 : Nat) ({ cls := "MirrorDoorsModel", name := "append", desc := "(IIIII)I" } : Jvm.MethodName)) ∈ lw_all := lw_g (lw_at lw_m9 168 rfl) rfl
theorem q2206 : (Jvm.Cond.methodLink "MirrorDoorsLaw" (164 : Nat) ({ cls := "MirrorDoorsModel", name := "truncate", desc := "(I)I" } : Jvm.MethodName)) ∈ lw_all := lw_g (lw_at lw_m9 176 rfl) rfl
theorem q2210 : (Jvm.Cond.methodLink "MirrorDoorsLaw" (167 : Nat) ({ cls := "MirrorDoorsModel", name := "board", desc := "(I)I" } : Jvm.MethodName)) ∈ lw_all := lw_g (lw_at lw_m9 180 rfl) rfl
theorem q2218 : (Jvm.Cond.methodLink "MirrorDoorsLaw" (170 : Nat) ({ cls := "MirrorDoorsModel", name := "cell", desc := "(III)I" } : Jvm.MethodName)) ∈ lw_all := lw_g (lw_at lw_m9 188 rfl) rfl
theorem q2222 : (Jvm.Cond.methodLink "MirrorDoorsLaw" (173 : Nat) ({ cls := "MirrorDoorsModel", name := "mirror", desc := "(II)I" } : Jvm.MethodName)) ∈ lw_all := lw_g (lw_at lw_m9 192 rfl) rfl
theorem q2229 : (Jvm.Cond.methodLink "MirrorDoorsLaw" (176 : Nat) ({ cls := "MirrorDoorsModel", name := "door", desc := "(II)I" } : Jvm.MethodName)) ∈ lw_all := lw_g (lw_at lw_m9 199 rfl) rfl
theorem q2237 : (Jvm.Cond.methodLink "MirrorDoorsLaw" (179 : Nat) ({ cls := "MirrorDoorsModel", name := "ray", desc := "(I)I" } : Jvm.MethodName)) ∈ lw_all := lw_g (lw_at lw_m9 207 rfl) rfl
theorem q2273 : (Jvm.Cond.methodLink "MirrorDoorsLaw" (182 : Nat) ({ cls := "MirrorDoorsModel", name := "beam", desc := "(II)I" } : Jvm.MethodName)) ∈ lw_all := lw_g (lw_at lw_m10 3 rfl) rfl
theorem q2277 : (Jvm.Cond.methodLink "MirrorDoorsLaw" (185 : Nat) ({ cls := "MirrorDoorsModel", name := "stepsTo", desc := "(I)I" } : Jvm.MethodName)) ∈ lw_all := lw_g (lw_at lw_m10 7 rfl) rfl
theorem q2285 : (Jvm.Cond.methodLink "MirrorDoorsLaw" (188 : Nat) ({ cls := "MirrorDoorsModel", name := "whyNot", desc := "(III)I" } : Jvm.MethodName)) ∈ lw_all := lw_g (lw_at lw_m10 15 rfl) rfl
theorem q2289 : (Jvm.Cond.methodLink "MirrorDoorsLaw" (192 : Nat) ({ cls := "MirrorDoorsModel", name := "gap", desc := "()I" } : Jvm.MethodName)) ∈ lw_all := lw_g (lw_at lw_m10 19 rfl) rfl
theorem q2293 : (Jvm.Cond.methodLink "MirrorDoorsLaw" (195 : Nat) ({ cls := "MirrorDoorsModel", name := "hitIf", desc := "(I)I" } : Jvm.MethodName)) ∈ lw_all := lw_g (lw_at lw_m10 23 rfl) rfl
theorem q2301 : (Jvm.Cond.methodLink "MirrorDoorsLaw" (198 : Nat) ({ cls := "MirrorDoorsModel", name := "fewest", desc := "(I)I" } : Jvm.MethodName)) ∈ lw_all := lw_g (lw_at lw_m10 31 rfl) rfl
theorem q2313 : (Jvm.Cond.methodLink "MirrorDoorsLaw" (201 : Nat) ({ cls := "MirrorDoorsModel", name := "settings", desc := "(I)I" } : Jvm.MethodName)) ∈ lw_all := lw_g (lw_at lw_m10 43 rfl) rfl
theorem q2317 : (Jvm.Cond.methodLink "MirrorDoorsLaw" (204 : Nat) ({ cls := "MirrorDoorsModel", name := "worth", desc := "(I)I" } : Jvm.MethodName)) ∈ lw_all := lw_g (lw_at lw_m10 47 rfl) rfl
theorem q2333 : (Jvm.Cond.methodLink "MirrorDoorsLaw" (207 : Nat) ({ cls := "MirrorDoorsModel", name := "best", desc := "(I)I" } : Jvm.MethodName)) ∈ lw_all := lw_g (lw_at lw_m10 63 rfl) rfl
theorem q2337 : (Jvm.Cond.methodLink "MirrorDoorsLaw" (212 : Nat) ({ cls := "MirrorDoorsModel", name := "litShare", desc := "()F" } : Jvm.MethodName)) ∈ lw_all := lw_g (lw_at lw_m10 67 rfl) rfl
theorem q2341 : (Jvm.Cond.methodLink "MirrorDoorsLaw" (217 : Nat) ({ cls := "MirrorDoorsModel", name := "meanSteps", desc := "()D" } : Jvm.MethodName)) ∈ lw_all := lw_g (lw_at lw_m10 71 rfl) rfl
theorem q2345 : (Jvm.Cond.methodLink "MirrorDoorsLaw" (221 : Nat) ({ cls := "MirrorDoorsModel", name := "writeBoard", desc := "()I" } : Jvm.MethodName)) ∈ lw_all := lw_g (lw_at lw_m10 75 rfl) rfl
theorem q2356 : (Jvm.Cond.methodLink "MirrorDoorsLaw" (225 : Nat) ({ cls := "MirrorDoorsModel", name := "reportByte", desc := "(I)I" } : Jvm.MethodName)) ∈ lw_all := lw_g (lw_at lw_m10 86 rfl) rfl
