/-! BellLots -/
set_option maxRecDepth 100000
def RX0 : String := "BellLots"
def TX0 : u_T := fun k => match k with
  | 0 => ("BellLots", "book", "LBellLots$Book;", false)
  | 1 => ("BellLots", "moved", "[I", true)
  | 2 => ("BellLots", "lot", "[I", true)
  | 3 => ("BellLots", "now", "LBellLots$Plain;", true)
  | 4 => ("BellLots", "tried", "LBellLots$Plain;", true)
  | 5 => ("BellLots", "before", "[LBellLots$Plain;", true)
  | 6 => ("BellLots", "deeds", "I", false)
  | 7 => ("BellLots", "images", "[LBellLots$Plain;", true)
  | 8 => ("BellLots", "isKept", "[Z", true)
  | 9 => ("BellLots", "text", "[B", true)
  | 10 => ("BellLots", "typed", "I", false)
  | 11 => ("BellLots", "least", "I", false)
  | 12 => ("BellLots", "going", "[I", true)
  | 13 => ("BellLots", "best", "[I", true)
  | 14 => ("BellLots", "factBell", "[I", true)
  | 15 => ("BellLots", "factTown", "[I", true)
  | 16 => ("BellLots", "facts", "I", false)
  | 17 => ("BellLots", "trace", "J", false)
  | _ => ("BellLots", "kinds", "[LBellLots$Bell;", true)
def tyX0 : Nat → FieldType := fun k => match k with
  | 0 => .object "BellLots$Book"
  | 1 => .array .int
  | 2 => .array .int
  | 3 => .object "BellLots$Plain"
  | 4 => .object "BellLots$Plain"
  | 5 => .array (.object "BellLots$Plain")
  | 6 => .int
  | 7 => .array (.object "BellLots$Plain")
  | 8 => .array .boolean
  | 9 => .array .byte
  | 10 => .int
  | 11 => .int
  | 12 => .array .int
  | 13 => .array .int
  | 14 => .array .int
  | 15 => .array .int
  | 16 => .int
  | 17 => .long
  | _ => .array (.object "BellLots$Bell")
abbrev wsX00 : List Cond := u_ws RX0 TX0 19
set_option maxRecDepth 100000 in
theorem nmX0 : ∀ a, a < 19 → ∀ b, b < 19 → a ≠ b → (TX0 a).2.1 ≠ (TX0 b).2.1 := by decide +kernel
set_option maxRecDepth 100000 in
theorem tyX0_ok : ∀ k, k < 19 → parseFieldDescriptor (TX0 k).2.2.1 = some (tyX0 k) := by decide +kernel
abbrev cX0_init : ByteArray := prog_1_method_4_code
def yX0_init : MethodName := ⟨RX0, "<init>", "()V"⟩
def dkwX0_init_8 : List UInt8 := [187, 0, 91, 89, 42, 183, 0, 93, 83, 181, 0, 94, 42, 180, 0, 38, 182, 0, 98, 177]
abbrev dktX0_init_8 : List UInt8 := dkwX0_init_8 ++ []
def dkwX0_init_7 : List UInt8 := [187, 0, 85, 89, 42, 183, 0, 87, 83, 89, 7, 187, 0, 88, 89, 42, 183, 0, 90, 83, 89, 8]
abbrev dktX0_init_7 : List UInt8 := dkwX0_init_7 ++ dktX0_init_8
def dkwX0_init_6 : List UInt8 := [187, 0, 79, 89, 42, 183, 0, 81, 83, 89, 5, 187, 0, 82, 89, 42, 183, 0, 84, 83, 89, 6]
abbrev dktX0_init_6 : List UInt8 := dkwX0_init_6 ++ dktX0_init_7
def dkwX0_init_5 : List UInt8 := [181, 0, 73, 42, 16, 6, 189, 0, 76, 89, 3, 187, 0, 76, 89, 42, 183, 0, 78, 83, 89, 4]
abbrev dktX0_init_5 : List UInt8 := dkwX0_init_5 ++ dktX0_init_6
def dkwX0_init_4 : List UInt8 := [181, 0, 64, 42, 16, 6, 188, 10, 181, 0, 67, 42, 8, 188, 10, 181, 0, 70, 42, 8, 188, 10]
abbrev dktX0_init_4 : List UInt8 := dkwX0_init_4 ++ dktX0_init_5
def dkwX0_init_3 : List UInt8 := [181, 0, 53, 42, 5, 188, 4, 181, 0, 56, 42, 17, 0, 200, 188, 8, 181, 0, 60, 42, 16, 6, 188, 10]
abbrev dktX0_init_3 : List UInt8 := dkwX0_init_3 ++ dktX0_init_4
def dkwX0_init_2 : List UInt8 := [42, 183, 0, 25, 181, 0, 42, 42, 42, 16, 10, 182, 0, 45, 181, 0, 49, 42, 42, 5, 182, 0, 45]
abbrev dktX0_init_2 : List UInt8 := dkwX0_init_2 ++ dktX0_init_3
def dkwX0_init_1 : List UInt8 := [16, 6, 188, 10, 181, 0, 19, 42, 187, 0, 23, 89, 42, 183, 0, 25, 181, 0, 38, 42, 187, 0, 23, 89]
abbrev dktX0_init_1 : List UInt8 := dkwX0_init_1 ++ dktX0_init_2
def dkwX0_init_0 : List UInt8 := [42, 183, 0, 29, 42, 187, 0, 8, 89, 183, 0, 34, 181, 0, 1, 42, 16, 6, 188, 10, 181, 0, 35, 42]
abbrev dktX0_init_0 : List UInt8 := dkwX0_init_0 ++ dktX0_init_1
theorem dksX0_init_0 : cX0_init.data.toList.drop 0 = dktX0_init_0 := by decide +kernel
theorem dksX0_init_1 : cX0_init.data.toList.drop 24 = dktX0_init_1 := dk_seg dksX0_init_0 24 rfl rfl
theorem dksX0_init_2 : cX0_init.data.toList.drop 48 = dktX0_init_2 := dk_seg dksX0_init_1 24 rfl rfl
theorem dksX0_init_3 : cX0_init.data.toList.drop 71 = dktX0_init_3 := dk_seg dksX0_init_2 23 rfl rfl
theorem dksX0_init_4 : cX0_init.data.toList.drop 95 = dktX0_init_4 := dk_seg dksX0_init_3 24 rfl rfl
theorem dksX0_init_5 : cX0_init.data.toList.drop 117 = dktX0_init_5 := dk_seg dksX0_init_4 22 rfl rfl
theorem dksX0_init_6 : cX0_init.data.toList.drop 139 = dktX0_init_6 := dk_seg dksX0_init_5 22 rfl rfl
theorem dksX0_init_7 : cX0_init.data.toList.drop 161 = dktX0_init_7 := dk_seg dksX0_init_6 22 rfl rfl
theorem dksX0_init_8 : cX0_init.data.toList.drop 183 = dktX0_init_8 := dk_seg dksX0_init_7 22 rfl rfl
theorem dX0_init_0 : decode cX0_init 0 = .ok (.aload_n 0, 1) := dk_42 (dk_at dksX0_init_0 0 rfl rfl)
theorem dX0_init_1 : decode cX0_init 1 = .ok (.invokespecial 29, 3) := dk_183 0 29 (dk_at dksX0_init_0 1 rfl rfl)
theorem dX0_init_4 : decode cX0_init 4 = .ok (.aload_n 0, 1) := dk_42 (dk_at dksX0_init_0 4 rfl rfl)
theorem dX0_init_5 : decode cX0_init 5 = .ok (.new 8, 3) := dk_187 0 8 (dk_at dksX0_init_0 5 rfl rfl)
theorem dX0_init_8 : decode cX0_init 8 = .ok (.dup, 1) := dk_89 (dk_at dksX0_init_0 8 rfl rfl)
theorem dX0_init_9 : decode cX0_init 9 = .ok (.invokespecial 34, 3) := dk_183 0 34 (dk_at dksX0_init_0 9 rfl rfl)
theorem dX0_init_12 : decode cX0_init 12 = .ok (.putfield 1, 3) := dk_181 0 1 (dk_at dksX0_init_0 12 rfl rfl)
theorem dX0_init_15 : decode cX0_init 15 = .ok (.aload_n 0, 1) := dk_42 (dk_at dksX0_init_0 15 rfl rfl)
theorem dX0_init_16 : decode cX0_init 16 = .ok (.bipush 6, 2) := dk_16 6 (dk_at dksX0_init_0 16 rfl rfl)
theorem dX0_init_18 : decode cX0_init 18 = .ok (.newarray .int, 2) := dk_188_10 (dk_at dksX0_init_0 18 rfl rfl)
theorem dX0_init_20 : decode cX0_init 20 = .ok (.putfield 35, 3) := dk_181 0 35 (dk_at dksX0_init_0 20 rfl rfl)
theorem dX0_init_23 : decode cX0_init 23 = .ok (.aload_n 0, 1) := dk_42 (dk_at dksX0_init_0 23 rfl rfl)
theorem dX0_init_24 : decode cX0_init 24 = .ok (.bipush 6, 2) := dk_16 6 (dk_at dksX0_init_1 0 rfl rfl)
theorem dX0_init_26 : decode cX0_init 26 = .ok (.newarray .int, 2) := dk_188_10 (dk_at dksX0_init_1 2 rfl rfl)
theorem dX0_init_28 : decode cX0_init 28 = .ok (.putfield 19, 3) := dk_181 0 19 (dk_at dksX0_init_1 4 rfl rfl)
theorem dX0_init_31 : decode cX0_init 31 = .ok (.aload_n 0, 1) := dk_42 (dk_at dksX0_init_1 7 rfl rfl)
theorem dX0_init_32 : decode cX0_init 32 = .ok (.new 23, 3) := dk_187 0 23 (dk_at dksX0_init_1 8 rfl rfl)
theorem dX0_init_35 : decode cX0_init 35 = .ok (.dup, 1) := dk_89 (dk_at dksX0_init_1 11 rfl rfl)
theorem dX0_init_36 : decode cX0_init 36 = .ok (.aload_n 0, 1) := dk_42 (dk_at dksX0_init_1 12 rfl rfl)
theorem dX0_init_37 : decode cX0_init 37 = .ok (.invokespecial 25, 3) := dk_183 0 25 (dk_at dksX0_init_1 13 rfl rfl)
theorem dX0_init_40 : decode cX0_init 40 = .ok (.putfield 38, 3) := dk_181 0 38 (dk_at dksX0_init_1 16 rfl rfl)
theorem dX0_init_43 : decode cX0_init 43 = .ok (.aload_n 0, 1) := dk_42 (dk_at dksX0_init_1 19 rfl rfl)
theorem dX0_init_44 : decode cX0_init 44 = .ok (.new 23, 3) := dk_187 0 23 (dk_at dksX0_init_1 20 rfl rfl)
theorem dX0_init_47 : decode cX0_init 47 = .ok (.dup, 1) := dk_89 (dk_at dksX0_init_1 23 rfl rfl)
theorem dX0_init_48 : decode cX0_init 48 = .ok (.aload_n 0, 1) := dk_42 (dk_at dksX0_init_2 0 rfl rfl)
theorem dX0_init_49 : decode cX0_init 49 = .ok (.invokespecial 25, 3) := dk_183 0 25 (dk_at dksX0_init_2 1 rfl rfl)
theorem dX0_init_52 : decode cX0_init 52 = .ok (.putfield 42, 3) := dk_181 0 42 (dk_at dksX0_init_2 4 rfl rfl)
theorem dX0_init_55 : decode cX0_init 55 = .ok (.aload_n 0, 1) := dk_42 (dk_at dksX0_init_2 7 rfl rfl)
theorem dX0_init_56 : decode cX0_init 56 = .ok (.aload_n 0, 1) := dk_42 (dk_at dksX0_init_2 8 rfl rfl)
theorem dX0_init_57 : decode cX0_init 57 = .ok (.bipush 10, 2) := dk_16 10 (dk_at dksX0_init_2 9 rfl rfl)
theorem dX0_init_59 : decode cX0_init 59 = .ok (.invokevirtual 45, 3) := dk_182 0 45 (dk_at dksX0_init_2 11 rfl rfl)
theorem dX0_init_62 : decode cX0_init 62 = .ok (.putfield 49, 3) := dk_181 0 49 (dk_at dksX0_init_2 14 rfl rfl)
theorem dX0_init_65 : decode cX0_init 65 = .ok (.aload_n 0, 1) := dk_42 (dk_at dksX0_init_2 17 rfl rfl)
theorem dX0_init_66 : decode cX0_init 66 = .ok (.aload_n 0, 1) := dk_42 (dk_at dksX0_init_2 18 rfl rfl)
theorem dX0_init_67 : decode cX0_init 67 = .ok (.iconst 2, 1) := dk_5 (dk_at dksX0_init_2 19 rfl rfl)
theorem dX0_init_68 : decode cX0_init 68 = .ok (.invokevirtual 45, 3) := dk_182 0 45 (dk_at dksX0_init_2 20 rfl rfl)
theorem dX0_init_71 : decode cX0_init 71 = .ok (.putfield 53, 3) := dk_181 0 53 (dk_at dksX0_init_3 0 rfl rfl)
theorem dX0_init_74 : decode cX0_init 74 = .ok (.aload_n 0, 1) := dk_42 (dk_at dksX0_init_3 3 rfl rfl)
theorem dX0_init_75 : decode cX0_init 75 = .ok (.iconst 2, 1) := dk_5 (dk_at dksX0_init_3 4 rfl rfl)
theorem dX0_init_76 : decode cX0_init 76 = .ok (.newarray .boolean, 2) := dk_188_4 (dk_at dksX0_init_3 5 rfl rfl)
theorem dX0_init_78 : decode cX0_init 78 = .ok (.putfield 56, 3) := dk_181 0 56 (dk_at dksX0_init_3 7 rfl rfl)
theorem dX0_init_81 : decode cX0_init 81 = .ok (.aload_n 0, 1) := dk_42 (dk_at dksX0_init_3 10 rfl rfl)
theorem dX0_init_82 : decode cX0_init 82 = .ok (.sipush 200, 3) := dk_17 0 200 (dk_at dksX0_init_3 11 rfl rfl)
theorem dX0_init_85 : decode cX0_init 85 = .ok (.newarray .byte, 2) := dk_188_8 (dk_at dksX0_init_3 14 rfl rfl)
theorem dX0_init_87 : decode cX0_init 87 = .ok (.putfield 60, 3) := dk_181 0 60 (dk_at dksX0_init_3 16 rfl rfl)
theorem dX0_init_90 : decode cX0_init 90 = .ok (.aload_n 0, 1) := dk_42 (dk_at dksX0_init_3 19 rfl rfl)
theorem dX0_init_91 : decode cX0_init 91 = .ok (.bipush 6, 2) := dk_16 6 (dk_at dksX0_init_3 20 rfl rfl)
theorem dX0_init_93 : decode cX0_init 93 = .ok (.newarray .int, 2) := dk_188_10 (dk_at dksX0_init_3 22 rfl rfl)
theorem dX0_init_95 : decode cX0_init 95 = .ok (.putfield 64, 3) := dk_181 0 64 (dk_at dksX0_init_4 0 rfl rfl)
theorem dX0_init_98 : decode cX0_init 98 = .ok (.aload_n 0, 1) := dk_42 (dk_at dksX0_init_4 3 rfl rfl)
theorem dX0_init_99 : decode cX0_init 99 = .ok (.bipush 6, 2) := dk_16 6 (dk_at dksX0_init_4 4 rfl rfl)
theorem dX0_init_101 : decode cX0_init 101 = .ok (.newarray .int, 2) := dk_188_10 (dk_at dksX0_init_4 6 rfl rfl)
theorem dX0_init_103 : decode cX0_init 103 = .ok (.putfield 67, 3) := dk_181 0 67 (dk_at dksX0_init_4 8 rfl rfl)
theorem dX0_init_106 : decode cX0_init 106 = .ok (.aload_n 0, 1) := dk_42 (dk_at dksX0_init_4 11 rfl rfl)
theorem dX0_init_107 : decode cX0_init 107 = .ok (.iconst 5, 1) := dk_8 (dk_at dksX0_init_4 12 rfl rfl)
theorem dX0_init_108 : decode cX0_init 108 = .ok (.newarray .int, 2) := dk_188_10 (dk_at dksX0_init_4 13 rfl rfl)
theorem dX0_init_110 : decode cX0_init 110 = .ok (.putfield 70, 3) := dk_181 0 70 (dk_at dksX0_init_4 15 rfl rfl)
theorem dX0_init_113 : decode cX0_init 113 = .ok (.aload_n 0, 1) := dk_42 (dk_at dksX0_init_4 18 rfl rfl)
theorem dX0_init_114 : decode cX0_init 114 = .ok (.iconst 5, 1) := dk_8 (dk_at dksX0_init_4 19 rfl rfl)
theorem dX0_init_115 : decode cX0_init 115 = .ok (.newarray .int, 2) := dk_188_10 (dk_at dksX0_init_4 20 rfl rfl)
theorem dX0_init_117 : decode cX0_init 117 = .ok (.putfield 73, 3) := dk_181 0 73 (dk_at dksX0_init_5 0 rfl rfl)
theorem dX0_init_120 : decode cX0_init 120 = .ok (.aload_n 0, 1) := dk_42 (dk_at dksX0_init_5 3 rfl rfl)
theorem dX0_init_121 : decode cX0_init 121 = .ok (.bipush 6, 2) := dk_16 6 (dk_at dksX0_init_5 4 rfl rfl)
theorem dX0_init_123 : decode cX0_init 123 = .ok (.anewarray 76, 3) := dk_189 0 76 (dk_at dksX0_init_5 6 rfl rfl)
theorem dX0_init_126 : decode cX0_init 126 = .ok (.dup, 1) := dk_89 (dk_at dksX0_init_5 9 rfl rfl)
theorem dX0_init_127 : decode cX0_init 127 = .ok (.iconst 0, 1) := dk_3 (dk_at dksX0_init_5 10 rfl rfl)
theorem dX0_init_128 : decode cX0_init 128 = .ok (.new 76, 3) := dk_187 0 76 (dk_at dksX0_init_5 11 rfl rfl)
theorem dX0_init_131 : decode cX0_init 131 = .ok (.dup, 1) := dk_89 (dk_at dksX0_init_5 14 rfl rfl)
theorem dX0_init_132 : decode cX0_init 132 = .ok (.aload_n 0, 1) := dk_42 (dk_at dksX0_init_5 15 rfl rfl)
theorem dX0_init_133 : decode cX0_init 133 = .ok (.invokespecial 78, 3) := dk_183 0 78 (dk_at dksX0_init_5 16 rfl rfl)
theorem dX0_init_136 : decode cX0_init 136 = .ok (.aastore, 1) := dk_83 (dk_at dksX0_init_5 19 rfl rfl)
theorem dX0_init_137 : decode cX0_init 137 = .ok (.dup, 1) := dk_89 (dk_at dksX0_init_5 20 rfl rfl)
theorem dX0_init_138 : decode cX0_init 138 = .ok (.iconst 1, 1) := dk_4 (dk_at dksX0_init_5 21 rfl rfl)
theorem dX0_init_139 : decode cX0_init 139 = .ok (.new 79, 3) := dk_187 0 79 (dk_at dksX0_init_6 0 rfl rfl)
theorem dX0_init_142 : decode cX0_init 142 = .ok (.dup, 1) := dk_89 (dk_at dksX0_init_6 3 rfl rfl)
theorem dX0_init_143 : decode cX0_init 143 = .ok (.aload_n 0, 1) := dk_42 (dk_at dksX0_init_6 4 rfl rfl)
theorem dX0_init_144 : decode cX0_init 144 = .ok (.invokespecial 81, 3) := dk_183 0 81 (dk_at dksX0_init_6 5 rfl rfl)
theorem dX0_init_147 : decode cX0_init 147 = .ok (.aastore, 1) := dk_83 (dk_at dksX0_init_6 8 rfl rfl)
theorem dX0_init_148 : decode cX0_init 148 = .ok (.dup, 1) := dk_89 (dk_at dksX0_init_6 9 rfl rfl)
theorem dX0_init_149 : decode cX0_init 149 = .ok (.iconst 2, 1) := dk_5 (dk_at dksX0_init_6 10 rfl rfl)
theorem dX0_init_150 : decode cX0_init 150 = .ok (.new 82, 3) := dk_187 0 82 (dk_at dksX0_init_6 11 rfl rfl)
theorem dX0_init_153 : decode cX0_init 153 = .ok (.dup, 1) := dk_89 (dk_at dksX0_init_6 14 rfl rfl)
theorem dX0_init_154 : decode cX0_init 154 = .ok (.aload_n 0, 1) := dk_42 (dk_at dksX0_init_6 15 rfl rfl)
theorem dX0_init_155 : decode cX0_init 155 = .ok (.invokespecial 84, 3) := dk_183 0 84 (dk_at dksX0_init_6 16 rfl rfl)
theorem dX0_init_158 : decode cX0_init 158 = .ok (.aastore, 1) := dk_83 (dk_at dksX0_init_6 19 rfl rfl)
theorem dX0_init_159 : decode cX0_init 159 = .ok (.dup, 1) := dk_89 (dk_at dksX0_init_6 20 rfl rfl)
theorem dX0_init_160 : decode cX0_init 160 = .ok (.iconst 3, 1) := dk_6 (dk_at dksX0_init_6 21 rfl rfl)
theorem dX0_init_161 : decode cX0_init 161 = .ok (.new 85, 3) := dk_187 0 85 (dk_at dksX0_init_7 0 rfl rfl)
theorem dX0_init_164 : decode cX0_init 164 = .ok (.dup, 1) := dk_89 (dk_at dksX0_init_7 3 rfl rfl)
theorem dX0_init_165 : decode cX0_init 165 = .ok (.aload_n 0, 1) := dk_42 (dk_at dksX0_init_7 4 rfl rfl)
theorem dX0_init_166 : decode cX0_init 166 = .ok (.invokespecial 87, 3) := dk_183 0 87 (dk_at dksX0_init_7 5 rfl rfl)
theorem dX0_init_169 : decode cX0_init 169 = .ok (.aastore, 1) := dk_83 (dk_at dksX0_init_7 8 rfl rfl)
theorem dX0_init_170 : decode cX0_init 170 = .ok (.dup, 1) := dk_89 (dk_at dksX0_init_7 9 rfl rfl)
theorem dX0_init_171 : decode cX0_init 171 = .ok (.iconst 4, 1) := dk_7 (dk_at dksX0_init_7 10 rfl rfl)
theorem dX0_init_172 : decode cX0_init 172 = .ok (.new 88, 3) := dk_187 0 88 (dk_at dksX0_init_7 11 rfl rfl)
theorem dX0_init_175 : decode cX0_init 175 = .ok (.dup, 1) := dk_89 (dk_at dksX0_init_7 14 rfl rfl)
theorem dX0_init_176 : decode cX0_init 176 = .ok (.aload_n 0, 1) := dk_42 (dk_at dksX0_init_7 15 rfl rfl)
theorem dX0_init_177 : decode cX0_init 177 = .ok (.invokespecial 90, 3) := dk_183 0 90 (dk_at dksX0_init_7 16 rfl rfl)
theorem dX0_init_180 : decode cX0_init 180 = .ok (.aastore, 1) := dk_83 (dk_at dksX0_init_7 19 rfl rfl)
theorem dX0_init_181 : decode cX0_init 181 = .ok (.dup, 1) := dk_89 (dk_at dksX0_init_7 20 rfl rfl)
theorem dX0_init_182 : decode cX0_init 182 = .ok (.iconst 5, 1) := dk_8 (dk_at dksX0_init_7 21 rfl rfl)
theorem dX0_init_183 : decode cX0_init 183 = .ok (.new 91, 3) := dk_187 0 91 (dk_at dksX0_init_8 0 rfl rfl)
theorem dX0_init_186 : decode cX0_init 186 = .ok (.dup, 1) := dk_89 (dk_at dksX0_init_8 3 rfl rfl)
theorem dX0_init_187 : decode cX0_init 187 = .ok (.aload_n 0, 1) := dk_42 (dk_at dksX0_init_8 4 rfl rfl)
theorem dX0_init_188 : decode cX0_init 188 = .ok (.invokespecial 93, 3) := dk_183 0 93 (dk_at dksX0_init_8 5 rfl rfl)
theorem dX0_init_191 : decode cX0_init 191 = .ok (.aastore, 1) := dk_83 (dk_at dksX0_init_8 8 rfl rfl)
theorem dX0_init_192 : decode cX0_init 192 = .ok (.putfield 94, 3) := dk_181 0 94 (dk_at dksX0_init_8 9 rfl rfl)
theorem dX0_init_195 : decode cX0_init 195 = .ok (.aload_n 0, 1) := dk_42 (dk_at dksX0_init_8 12 rfl rfl)
theorem dX0_init_196 : decode cX0_init 196 = .ok (.getfield 38, 3) := dk_180 0 38 (dk_at dksX0_init_8 13 rfl rfl)
theorem dX0_init_199 : decode cX0_init 199 = .ok (.invokevirtual 98, 3) := dk_182 0 98 (dk_at dksX0_init_8 16 rfl rfl)
theorem dX0_init_202 : decode cX0_init 202 = .ok (.return_, 1) := dk_177 (dk_at dksX0_init_8 19 rfl rfl)
abbrev cX0_plains : ByteArray := prog_1_method_3_code
def yX0_plains : MethodName := ⟨RX0, "plains", "(I)[LBellLots$Plain;"⟩
def dkwX0_plains_1 : List UInt8 := [132, 3, 1, 167, 255, 237, 44, 176]
abbrev dktX0_plains_1 : List UInt8 := dkwX0_plains_1 ++ []
def dkwX0_plains_0 : List UInt8 := [27, 189, 0, 23, 77, 3, 62, 29, 27, 162, 0, 20, 44, 29, 187, 0, 23, 89, 42, 183, 0, 25, 83]
abbrev dktX0_plains_0 : List UInt8 := dkwX0_plains_0 ++ dktX0_plains_1
theorem dksX0_plains_0 : cX0_plains.data.toList.drop 0 = dktX0_plains_0 := by decide +kernel
theorem dksX0_plains_1 : cX0_plains.data.toList.drop 23 = dktX0_plains_1 := dk_seg dksX0_plains_0 23 rfl rfl
theorem dX0_plains_0 : decode cX0_plains 0 = .ok (.iload_n 1, 1) := dk_27 (dk_at dksX0_plains_0 0 rfl rfl)
theorem dX0_plains_1 : decode cX0_plains 1 = .ok (.anewarray 23, 3) := dk_189 0 23 (dk_at dksX0_plains_0 1 rfl rfl)
theorem dX0_plains_4 : decode cX0_plains 4 = .ok (.astore_n 2, 1) := dk_77 (dk_at dksX0_plains_0 4 rfl rfl)
theorem dX0_plains_5 : decode cX0_plains 5 = .ok (.iconst 0, 1) := dk_3 (dk_at dksX0_plains_0 5 rfl rfl)
theorem dX0_plains_6 : decode cX0_plains 6 = .ok (.istore_n 3, 1) := dk_62 (dk_at dksX0_plains_0 6 rfl rfl)
theorem dX0_plains_7 : decode cX0_plains 7 = .ok (.iload_n 3, 1) := dk_29 (dk_at dksX0_plains_0 7 rfl rfl)
theorem dX0_plains_8 : decode cX0_plains 8 = .ok (.iload_n 1, 1) := dk_27 (dk_at dksX0_plains_0 8 rfl rfl)
theorem dX0_plains_9 : decode cX0_plains 9 = .ok (.if_icmp .ge 20, 3) := dk_162 0 20 (dk_at dksX0_plains_0 9 rfl rfl)
theorem dX0_plains_12 : decode cX0_plains 12 = .ok (.aload_n 2, 1) := dk_44 (dk_at dksX0_plains_0 12 rfl rfl)
theorem dX0_plains_13 : decode cX0_plains 13 = .ok (.iload_n 3, 1) := dk_29 (dk_at dksX0_plains_0 13 rfl rfl)
theorem dX0_plains_14 : decode cX0_plains 14 = .ok (.new 23, 3) := dk_187 0 23 (dk_at dksX0_plains_0 14 rfl rfl)
theorem dX0_plains_17 : decode cX0_plains 17 = .ok (.dup, 1) := dk_89 (dk_at dksX0_plains_0 17 rfl rfl)
theorem dX0_plains_18 : decode cX0_plains 18 = .ok (.aload_n 0, 1) := dk_42 (dk_at dksX0_plains_0 18 rfl rfl)
theorem dX0_plains_19 : decode cX0_plains 19 = .ok (.invokespecial 25, 3) := dk_183 0 25 (dk_at dksX0_plains_0 19 rfl rfl)
theorem dX0_plains_22 : decode cX0_plains 22 = .ok (.aastore, 1) := dk_83 (dk_at dksX0_plains_0 22 rfl rfl)
theorem dX0_plains_23 : decode cX0_plains 23 = .ok (.iinc 3 1, 3) := dk_132 3 1 (dk_at dksX0_plains_1 0 rfl rfl)
theorem dX0_plains_26 : decode cX0_plains 26 = .ok (.goto (-19), 3) := dk_167 255 237 (dk_at dksX0_plains_1 3 rfl rfl)
theorem dX0_plains_29 : decode cX0_plains 29 = .ok (.aload_n 2, 1) := dk_44 (dk_at dksX0_plains_1 6 rfl rfl)
theorem dX0_plains_30 : decode cX0_plains 30 = .ok (.areturn, 1) := dk_176 (dk_at dksX0_plains_1 7 rfl rfl)
abbrev cX0_type : ByteArray := prog_1_method_5_code
def yX0_type : MethodName := ⟨RX0, "type", "(I)I"⟩
def dkwX0_type_2 : List UInt8 := [42, 180, 0, 105, 172]
abbrev dktX0_type_2 : List UInt8 := dkwX0_type_2 ++ []
def dkwX0_type_1 : List UInt8 := [16, 253, 172, 42, 180, 0, 60, 42, 180, 0, 105, 27, 145, 84, 42, 89, 180, 0, 105, 4, 96, 181, 0, 105]
abbrev dktX0_type_1 : List UInt8 := dkwX0_type_1 ++ dktX0_type_2
def dkwX0_type_0 : List UInt8 := [27, 3, 17, 0, 255, 184, 0, 101, 154, 0, 5, 2, 172, 42, 180, 0, 105, 17, 0, 200, 160, 0, 6]
abbrev dktX0_type_0 : List UInt8 := dkwX0_type_0 ++ dktX0_type_1
theorem dksX0_type_0 : cX0_type.data.toList.drop 0 = dktX0_type_0 := by decide +kernel
theorem dksX0_type_1 : cX0_type.data.toList.drop 23 = dktX0_type_1 := dk_seg dksX0_type_0 23 rfl rfl
theorem dksX0_type_2 : cX0_type.data.toList.drop 47 = dktX0_type_2 := dk_seg dksX0_type_1 24 rfl rfl
theorem dX0_type_0 : decode cX0_type 0 = .ok (.iload_n 1, 1) := dk_27 (dk_at dksX0_type_0 0 rfl rfl)
theorem dX0_type_1 : decode cX0_type 1 = .ok (.iconst 0, 1) := dk_3 (dk_at dksX0_type_0 1 rfl rfl)
theorem dX0_type_2 : decode cX0_type 2 = .ok (.sipush 255, 3) := dk_17 0 255 (dk_at dksX0_type_0 2 rfl rfl)
theorem dX0_type_5 : decode cX0_type 5 = .ok (.invokestatic 101, 3) := dk_184 0 101 (dk_at dksX0_type_0 5 rfl rfl)
theorem dX0_type_8 : decode cX0_type 8 = .ok (.ifCond .ne 5, 3) := dk_154 0 5 (dk_at dksX0_type_0 8 rfl rfl)
theorem dX0_type_11 : decode cX0_type 11 = .ok (.iconst (-1), 1) := dk_2 (dk_at dksX0_type_0 11 rfl rfl)
theorem dX0_type_12 : decode cX0_type 12 = .ok (.ireturn, 1) := dk_172 (dk_at dksX0_type_0 12 rfl rfl)
theorem dX0_type_13 : decode cX0_type 13 = .ok (.aload_n 0, 1) := dk_42 (dk_at dksX0_type_0 13 rfl rfl)
theorem dX0_type_14 : decode cX0_type 14 = .ok (.getfield 105, 3) := dk_180 0 105 (dk_at dksX0_type_0 14 rfl rfl)
theorem dX0_type_17 : decode cX0_type 17 = .ok (.sipush 200, 3) := dk_17 0 200 (dk_at dksX0_type_0 17 rfl rfl)
theorem dX0_type_20 : decode cX0_type 20 = .ok (.if_icmp .ne 6, 3) := dk_160 0 6 (dk_at dksX0_type_0 20 rfl rfl)
theorem dX0_type_23 : decode cX0_type 23 = .ok (.bipush (-3), 2) := dk_16 253 (dk_at dksX0_type_1 0 rfl rfl)
theorem dX0_type_25 : decode cX0_type 25 = .ok (.ireturn, 1) := dk_172 (dk_at dksX0_type_1 2 rfl rfl)
theorem dX0_type_26 : decode cX0_type 26 = .ok (.aload_n 0, 1) := dk_42 (dk_at dksX0_type_1 3 rfl rfl)
theorem dX0_type_27 : decode cX0_type 27 = .ok (.getfield 60, 3) := dk_180 0 60 (dk_at dksX0_type_1 4 rfl rfl)
theorem dX0_type_30 : decode cX0_type 30 = .ok (.aload_n 0, 1) := dk_42 (dk_at dksX0_type_1 7 rfl rfl)
theorem dX0_type_31 : decode cX0_type 31 = .ok (.getfield 105, 3) := dk_180 0 105 (dk_at dksX0_type_1 8 rfl rfl)
theorem dX0_type_34 : decode cX0_type 34 = .ok (.iload_n 1, 1) := dk_27 (dk_at dksX0_type_1 11 rfl rfl)
theorem dX0_type_35 : decode cX0_type 35 = .ok (.i2b, 1) := dk_145 (dk_at dksX0_type_1 12 rfl rfl)
theorem dX0_type_36 : decode cX0_type 36 = .ok (.bastore, 1) := dk_84 (dk_at dksX0_type_1 13 rfl rfl)
theorem dX0_type_37 : decode cX0_type 37 = .ok (.aload_n 0, 1) := dk_42 (dk_at dksX0_type_1 14 rfl rfl)
theorem dX0_type_38 : decode cX0_type 38 = .ok (.dup, 1) := dk_89 (dk_at dksX0_type_1 15 rfl rfl)
theorem dX0_type_39 : decode cX0_type 39 = .ok (.getfield 105, 3) := dk_180 0 105 (dk_at dksX0_type_1 16 rfl rfl)
theorem dX0_type_42 : decode cX0_type 42 = .ok (.iconst 1, 1) := dk_4 (dk_at dksX0_type_1 19 rfl rfl)
theorem dX0_type_43 : decode cX0_type 43 = .ok (.iadd, 1) := dk_96 (dk_at dksX0_type_1 20 rfl rfl)
theorem dX0_type_44 : decode cX0_type 44 = .ok (.putfield 105, 3) := dk_181 0 105 (dk_at dksX0_type_1 21 rfl rfl)
theorem dX0_type_47 : decode cX0_type 47 = .ok (.aload_n 0, 1) := dk_42 (dk_at dksX0_type_2 0 rfl rfl)
theorem dX0_type_48 : decode cX0_type 48 = .ok (.getfield 105, 3) := dk_180 0 105 (dk_at dksX0_type_2 1 rfl rfl)
theorem dX0_type_51 : decode cX0_type 51 = .ok (.ireturn, 1) := dk_172 (dk_at dksX0_type_2 4 rfl rfl)
abbrev cX0_in : ByteArray := prog_1_method_1_code
def yX0_in : MethodName := ⟨RX0, "in", "(III)Z"⟩
def dkwX0_in_0 : List UInt8 := [26, 27, 161, 0, 12, 26, 28, 163, 0, 7, 4, 167, 0, 4, 3, 172]
abbrev dktX0_in_0 : List UInt8 := dkwX0_in_0 ++ []
theorem dksX0_in_0 : cX0_in.data.toList.drop 0 = dktX0_in_0 := by decide +kernel
theorem dX0_in_0 : decode cX0_in 0 = .ok (.iload_n 0, 1) := dk_26 (dk_at dksX0_in_0 0 rfl rfl)
theorem dX0_in_1 : decode cX0_in 1 = .ok (.iload_n 1, 1) := dk_27 (dk_at dksX0_in_0 1 rfl rfl)
theorem dX0_in_2 : decode cX0_in 2 = .ok (.if_icmp .lt 12, 3) := dk_161 0 12 (dk_at dksX0_in_0 2 rfl rfl)
theorem dX0_in_5 : decode cX0_in 5 = .ok (.iload_n 0, 1) := dk_26 (dk_at dksX0_in_0 5 rfl rfl)
theorem dX0_in_6 : decode cX0_in 6 = .ok (.iload_n 2, 1) := dk_28 (dk_at dksX0_in_0 6 rfl rfl)
theorem dX0_in_7 : decode cX0_in 7 = .ok (.if_icmp .gt 7, 3) := dk_163 0 7 (dk_at dksX0_in_0 7 rfl rfl)
theorem dX0_in_10 : decode cX0_in 10 = .ok (.iconst 1, 1) := dk_4 (dk_at dksX0_in_0 10 rfl rfl)
theorem dX0_in_11 : decode cX0_in 11 = .ok (.goto 4, 3) := dk_167 0 4 (dk_at dksX0_in_0 11 rfl rfl)
theorem dX0_in_14 : decode cX0_in 14 = .ok (.iconst 0, 1) := dk_3 (dk_at dksX0_in_0 14 rfl rfl)
theorem dX0_in_15 : decode cX0_in 15 = .ok (.ireturn, 1) := dk_172 (dk_at dksX0_in_0 15 rfl rfl)
abbrev cX0_clear : ByteArray := prog_1_method_6_code
def yX0_clear : MethodName := ⟨RX0, "clear", "()I"⟩
def dkwX0_clear_0 : List UInt8 := [42, 180, 0, 105, 60, 42, 3, 181, 0, 105, 27, 172]
abbrev dktX0_clear_0 : List UInt8 := dkwX0_clear_0 ++ []
theorem dksX0_clear_0 : cX0_clear.data.toList.drop 0 = dktX0_clear_0 := by decide +kernel
theorem dX0_clear_0 : decode cX0_clear 0 = .ok (.aload_n 0, 1) := dk_42 (dk_at dksX0_clear_0 0 rfl rfl)
theorem dX0_clear_1 : decode cX0_clear 1 = .ok (.getfield 105, 3) := dk_180 0 105 (dk_at dksX0_clear_0 1 rfl rfl)
theorem dX0_clear_4 : decode cX0_clear 4 = .ok (.istore_n 1, 1) := dk_60 (dk_at dksX0_clear_0 4 rfl rfl)
theorem dX0_clear_5 : decode cX0_clear 5 = .ok (.aload_n 0, 1) := dk_42 (dk_at dksX0_clear_0 5 rfl rfl)
theorem dX0_clear_6 : decode cX0_clear 6 = .ok (.iconst 0, 1) := dk_3 (dk_at dksX0_clear_0 6 rfl rfl)
theorem dX0_clear_7 : decode cX0_clear 7 = .ok (.putfield 105, 3) := dk_181 0 105 (dk_at dksX0_clear_0 7 rfl rfl)
theorem dX0_clear_10 : decode cX0_clear 10 = .ok (.iload_n 1, 1) := dk_27 (dk_at dksX0_clear_0 10 rfl rfl)
theorem dX0_clear_11 : decode cX0_clear 11 = .ok (.ireturn, 1) := dk_172 (dk_at dksX0_clear_0 11 rfl rfl)
abbrev cX0_plain : ByteArray := prog_1_method_7_code
def yX0_plain : MethodName := ⟨RX0, "plain", "()I"⟩
def dkwX0_plain_2 : List UInt8 := [180, 0, 56, 3, 184, 0, 126, 42, 3, 181, 0, 105, 43, 180, 0, 132, 172]
abbrev dktX0_plain_2 : List UInt8 := dkwX0_plain_2 ++ []
def dkwX0_plain_1 : List UInt8 := [42, 43, 181, 0, 1, 42, 180, 0, 38, 182, 0, 98, 42, 3, 181, 0, 120, 42, 3, 181, 0, 123, 42]
abbrev dktX0_plain_1 : List UInt8 := dkwX0_plain_1 ++ dktX0_plain_2
def dkwX0_plain_0 : List UInt8 := [187, 0, 108, 89, 42, 183, 0, 110, 182, 0, 111, 76, 167, 0, 12, 77, 16, 246, 44, 180, 0, 117, 100, 172]
abbrev dktX0_plain_0 : List UInt8 := dkwX0_plain_0 ++ dktX0_plain_1
theorem dksX0_plain_0 : cX0_plain.data.toList.drop 0 = dktX0_plain_0 := by decide +kernel
theorem dksX0_plain_1 : cX0_plain.data.toList.drop 24 = dktX0_plain_1 := dk_seg dksX0_plain_0 24 rfl rfl
theorem dksX0_plain_2 : cX0_plain.data.toList.drop 47 = dktX0_plain_2 := dk_seg dksX0_plain_1 23 rfl rfl
theorem dX0_plain_0 : decode cX0_plain 0 = .ok (.new 108, 3) := dk_187 0 108 (dk_at dksX0_plain_0 0 rfl rfl)
theorem dX0_plain_3 : decode cX0_plain 3 = .ok (.dup, 1) := dk_89 (dk_at dksX0_plain_0 3 rfl rfl)
theorem dX0_plain_4 : decode cX0_plain 4 = .ok (.aload_n 0, 1) := dk_42 (dk_at dksX0_plain_0 4 rfl rfl)
theorem dX0_plain_5 : decode cX0_plain 5 = .ok (.invokespecial 110, 3) := dk_183 0 110 (dk_at dksX0_plain_0 5 rfl rfl)
theorem dX0_plain_8 : decode cX0_plain 8 = .ok (.invokevirtual 111, 3) := dk_182 0 111 (dk_at dksX0_plain_0 8 rfl rfl)
theorem dX0_plain_11 : decode cX0_plain 11 = .ok (.astore_n 1, 1) := dk_76 (dk_at dksX0_plain_0 11 rfl rfl)
theorem dX0_plain_12 : decode cX0_plain 12 = .ok (.goto 12, 3) := dk_167 0 12 (dk_at dksX0_plain_0 12 rfl rfl)
theorem dX0_plain_15 : decode cX0_plain 15 = .ok (.astore_n 2, 1) := dk_77 (dk_at dksX0_plain_0 15 rfl rfl)
theorem dX0_plain_16 : decode cX0_plain 16 = .ok (.bipush (-10), 2) := dk_16 246 (dk_at dksX0_plain_0 16 rfl rfl)
theorem dX0_plain_18 : decode cX0_plain 18 = .ok (.aload_n 2, 1) := dk_44 (dk_at dksX0_plain_0 18 rfl rfl)
theorem dX0_plain_19 : decode cX0_plain 19 = .ok (.getfield 117, 3) := dk_180 0 117 (dk_at dksX0_plain_0 19 rfl rfl)
theorem dX0_plain_22 : decode cX0_plain 22 = .ok (.isub, 1) := dk_100 (dk_at dksX0_plain_0 22 rfl rfl)
theorem dX0_plain_23 : decode cX0_plain 23 = .ok (.ireturn, 1) := dk_172 (dk_at dksX0_plain_0 23 rfl rfl)
theorem dX0_plain_24 : decode cX0_plain 24 = .ok (.aload_n 0, 1) := dk_42 (dk_at dksX0_plain_1 0 rfl rfl)
theorem dX0_plain_25 : decode cX0_plain 25 = .ok (.aload_n 1, 1) := dk_43 (dk_at dksX0_plain_1 1 rfl rfl)
theorem dX0_plain_26 : decode cX0_plain 26 = .ok (.putfield 1, 3) := dk_181 0 1 (dk_at dksX0_plain_1 2 rfl rfl)
theorem dX0_plain_29 : decode cX0_plain 29 = .ok (.aload_n 0, 1) := dk_42 (dk_at dksX0_plain_1 5 rfl rfl)
theorem dX0_plain_30 : decode cX0_plain 30 = .ok (.getfield 38, 3) := dk_180 0 38 (dk_at dksX0_plain_1 6 rfl rfl)
theorem dX0_plain_33 : decode cX0_plain 33 = .ok (.invokevirtual 98, 3) := dk_182 0 98 (dk_at dksX0_plain_1 9 rfl rfl)
theorem dX0_plain_36 : decode cX0_plain 36 = .ok (.aload_n 0, 1) := dk_42 (dk_at dksX0_plain_1 12 rfl rfl)
theorem dX0_plain_37 : decode cX0_plain 37 = .ok (.iconst 0, 1) := dk_3 (dk_at dksX0_plain_1 13 rfl rfl)
theorem dX0_plain_38 : decode cX0_plain 38 = .ok (.putfield 120, 3) := dk_181 0 120 (dk_at dksX0_plain_1 14 rfl rfl)
theorem dX0_plain_41 : decode cX0_plain 41 = .ok (.aload_n 0, 1) := dk_42 (dk_at dksX0_plain_1 17 rfl rfl)
theorem dX0_plain_42 : decode cX0_plain 42 = .ok (.iconst 0, 1) := dk_3 (dk_at dksX0_plain_1 18 rfl rfl)
theorem dX0_plain_43 : decode cX0_plain 43 = .ok (.putfield 123, 3) := dk_181 0 123 (dk_at dksX0_plain_1 19 rfl rfl)
theorem dX0_plain_46 : decode cX0_plain 46 = .ok (.aload_n 0, 1) := dk_42 (dk_at dksX0_plain_1 22 rfl rfl)
theorem dX0_plain_47 : decode cX0_plain 47 = .ok (.getfield 56, 3) := dk_180 0 56 (dk_at dksX0_plain_2 0 rfl rfl)
theorem dX0_plain_50 : decode cX0_plain 50 = .ok (.iconst 0, 1) := dk_3 (dk_at dksX0_plain_2 3 rfl rfl)
theorem dX0_plain_51 : decode cX0_plain 51 = .ok (.invokestatic 126, 3) := dk_184 0 126 (dk_at dksX0_plain_2 4 rfl rfl)
theorem dX0_plain_54 : decode cX0_plain 54 = .ok (.aload_n 0, 1) := dk_42 (dk_at dksX0_plain_2 7 rfl rfl)
theorem dX0_plain_55 : decode cX0_plain 55 = .ok (.iconst 0, 1) := dk_3 (dk_at dksX0_plain_2 8 rfl rfl)
theorem dX0_plain_56 : decode cX0_plain 56 = .ok (.putfield 105, 3) := dk_181 0 105 (dk_at dksX0_plain_2 9 rfl rfl)
theorem dX0_plain_59 : decode cX0_plain 59 = .ok (.aload_n 1, 1) := dk_43 (dk_at dksX0_plain_2 12 rfl rfl)
theorem dX0_plain_60 : decode cX0_plain 60 = .ok (.getfield 132, 3) := dk_180 0 132 (dk_at dksX0_plain_2 13 rfl rfl)
theorem dX0_plain_63 : decode cX0_plain 63 = .ok (.ireturn, 1) := dk_172 (dk_at dksX0_plain_2 16 rfl rfl)
abbrev cX0_town : ByteArray := prog_1_method_10_code
def yX0_town : MethodName := ⟨RX0, "town", "(II)I"⟩
def dkwX0_town_3 : List UInt8 := [27, 182, 0, 148, 172, 42, 180, 0, 38, 182, 0, 152, 27, 122, 4, 126, 172, 2, 172]
abbrev dktX0_town_3 : List UInt8 := dkwX0_town_3 ++ []
def dkwX0_town_2 : List UInt8 := [42, 180, 0, 38, 180, 0, 135, 27, 46, 172, 42, 180, 0, 38, 180, 0, 145, 27, 46, 172, 42, 180, 0, 38]
abbrev dktX0_town_2 : List UInt8 := dkwX0_town_2 ++ dktX0_town_3
def dkwX0_town_1 : List UInt8 := [170, 0, 0, 0, 70, 0, 0, 0, 0, 0, 0, 0, 3, 0, 0, 0, 29, 0, 0, 0, 39, 0, 0, 0, 49, 0, 0, 0, 58]
abbrev dktX0_town_1 : List UInt8 := dkwX0_town_1 ++ dktX0_town_2
def dkwX0_town_0 : List UInt8 := [42, 27, 182, 0, 141, 154, 0, 5, 2, 172, 28]
abbrev dktX0_town_0 : List UInt8 := dkwX0_town_0 ++ dktX0_town_1
theorem dksX0_town_0 : cX0_town.data.toList.drop 0 = dktX0_town_0 := by decide +kernel
theorem dksX0_town_1 : cX0_town.data.toList.drop 11 = dktX0_town_1 := dk_seg dksX0_town_0 11 rfl rfl
theorem dksX0_town_2 : cX0_town.data.toList.drop 40 = dktX0_town_2 := dk_seg dksX0_town_1 29 rfl rfl
theorem dksX0_town_3 : cX0_town.data.toList.drop 64 = dktX0_town_3 := dk_seg dksX0_town_2 24 rfl rfl
theorem dX0_town_0 : decode cX0_town 0 = .ok (.aload_n 0, 1) := dk_42 (dk_at dksX0_town_0 0 rfl rfl)
theorem dX0_town_1 : decode cX0_town 1 = .ok (.iload_n 1, 1) := dk_27 (dk_at dksX0_town_0 1 rfl rfl)
theorem dX0_town_2 : decode cX0_town 2 = .ok (.invokevirtual 141, 3) := dk_182 0 141 (dk_at dksX0_town_0 2 rfl rfl)
theorem dX0_town_5 : decode cX0_town 5 = .ok (.ifCond .ne 5, 3) := dk_154 0 5 (dk_at dksX0_town_0 5 rfl rfl)
theorem dX0_town_8 : decode cX0_town 8 = .ok (.iconst (-1), 1) := dk_2 (dk_at dksX0_town_0 8 rfl rfl)
theorem dX0_town_9 : decode cX0_town 9 = .ok (.ireturn, 1) := dk_172 (dk_at dksX0_town_0 9 rfl rfl)
theorem dX0_town_10 : decode cX0_town 10 = .ok (.iload_n 2, 1) := dk_28 (dk_at dksX0_town_0 10 rfl rfl)
theorem dX0_town_11 : decode cX0_town 11 = .ok (.tableswitch 70 0 3 #[29, 39, 49, 58], 29) := by decide +kernel
theorem dX0_town_40 : decode cX0_town 40 = .ok (.aload_n 0, 1) := dk_42 (dk_at dksX0_town_2 0 rfl rfl)
theorem dX0_town_41 : decode cX0_town 41 = .ok (.getfield 38, 3) := dk_180 0 38 (dk_at dksX0_town_2 1 rfl rfl)
theorem dX0_town_44 : decode cX0_town 44 = .ok (.getfield 135, 3) := dk_180 0 135 (dk_at dksX0_town_2 4 rfl rfl)
theorem dX0_town_47 : decode cX0_town 47 = .ok (.iload_n 1, 1) := dk_27 (dk_at dksX0_town_2 7 rfl rfl)
theorem dX0_town_48 : decode cX0_town 48 = .ok (.iaload, 1) := dk_46 (dk_at dksX0_town_2 8 rfl rfl)
theorem dX0_town_49 : decode cX0_town 49 = .ok (.ireturn, 1) := dk_172 (dk_at dksX0_town_2 9 rfl rfl)
theorem dX0_town_50 : decode cX0_town 50 = .ok (.aload_n 0, 1) := dk_42 (dk_at dksX0_town_2 10 rfl rfl)
theorem dX0_town_51 : decode cX0_town 51 = .ok (.getfield 38, 3) := dk_180 0 38 (dk_at dksX0_town_2 11 rfl rfl)
theorem dX0_town_54 : decode cX0_town 54 = .ok (.getfield 145, 3) := dk_180 0 145 (dk_at dksX0_town_2 14 rfl rfl)
theorem dX0_town_57 : decode cX0_town 57 = .ok (.iload_n 1, 1) := dk_27 (dk_at dksX0_town_2 17 rfl rfl)
theorem dX0_town_58 : decode cX0_town 58 = .ok (.iaload, 1) := dk_46 (dk_at dksX0_town_2 18 rfl rfl)
theorem dX0_town_59 : decode cX0_town 59 = .ok (.ireturn, 1) := dk_172 (dk_at dksX0_town_2 19 rfl rfl)
theorem dX0_town_60 : decode cX0_town 60 = .ok (.aload_n 0, 1) := dk_42 (dk_at dksX0_town_2 20 rfl rfl)
theorem dX0_town_61 : decode cX0_town 61 = .ok (.getfield 38, 3) := dk_180 0 38 (dk_at dksX0_town_2 21 rfl rfl)
theorem dX0_town_64 : decode cX0_town 64 = .ok (.iload_n 1, 1) := dk_27 (dk_at dksX0_town_3 0 rfl rfl)
theorem dX0_town_65 : decode cX0_town 65 = .ok (.invokevirtual 148, 3) := dk_182 0 148 (dk_at dksX0_town_3 1 rfl rfl)
theorem dX0_town_68 : decode cX0_town 68 = .ok (.ireturn, 1) := dk_172 (dk_at dksX0_town_3 4 rfl rfl)
theorem dX0_town_69 : decode cX0_town 69 = .ok (.aload_n 0, 1) := dk_42 (dk_at dksX0_town_3 5 rfl rfl)
theorem dX0_town_70 : decode cX0_town 70 = .ok (.getfield 38, 3) := dk_180 0 38 (dk_at dksX0_town_3 6 rfl rfl)
theorem dX0_town_73 : decode cX0_town 73 = .ok (.invokevirtual 152, 3) := dk_182 0 152 (dk_at dksX0_town_3 9 rfl rfl)
theorem dX0_town_76 : decode cX0_town 76 = .ok (.iload_n 1, 1) := dk_27 (dk_at dksX0_town_3 12 rfl rfl)
theorem dX0_town_77 : decode cX0_town 77 = .ok (.ishr, 1) := dk_122 (dk_at dksX0_town_3 13 rfl rfl)
theorem dX0_town_78 : decode cX0_town 78 = .ok (.iconst 1, 1) := dk_4 (dk_at dksX0_town_3 14 rfl rfl)
theorem dX0_town_79 : decode cX0_town 79 = .ok (.iand, 1) := dk_126 (dk_at dksX0_town_3 15 rfl rfl)
theorem dX0_town_80 : decode cX0_town 80 = .ok (.ireturn, 1) := dk_172 (dk_at dksX0_town_3 16 rfl rfl)
theorem dX0_town_81 : decode cX0_town 81 = .ok (.iconst (-1), 1) := dk_2 (dk_at dksX0_town_3 17 rfl rfl)
theorem dX0_town_82 : decode cX0_town 82 = .ok (.ireturn, 1) := dk_172 (dk_at dksX0_town_3 18 rfl rfl)
abbrev cX0_isTown : ByteArray := prog_1_method_8_code
def yX0_isTown : MethodName := ⟨RX0, "isTown", "(I)Z"⟩
def dkwX0_isTown_0 : List UInt8 := [27, 3, 42, 180, 0, 1, 180, 0, 7, 4, 100, 184, 0, 101, 172]
abbrev dktX0_isTown_0 : List UInt8 := dkwX0_isTown_0 ++ []
theorem dksX0_isTown_0 : cX0_isTown.data.toList.drop 0 = dktX0_isTown_0 := by decide +kernel
theorem dX0_isTown_0 : decode cX0_isTown 0 = .ok (.iload_n 1, 1) := dk_27 (dk_at dksX0_isTown_0 0 rfl rfl)
theorem dX0_isTown_1 : decode cX0_isTown 1 = .ok (.iconst 0, 1) := dk_3 (dk_at dksX0_isTown_0 1 rfl rfl)
theorem dX0_isTown_2 : decode cX0_isTown 2 = .ok (.aload_n 0, 1) := dk_42 (dk_at dksX0_isTown_0 2 rfl rfl)
theorem dX0_isTown_3 : decode cX0_isTown 3 = .ok (.getfield 1, 3) := dk_180 0 1 (dk_at dksX0_isTown_0 3 rfl rfl)
theorem dX0_isTown_6 : decode cX0_isTown 6 = .ok (.getfield 7, 3) := dk_180 0 7 (dk_at dksX0_isTown_0 6 rfl rfl)
theorem dX0_isTown_9 : decode cX0_isTown 9 = .ok (.iconst 1, 1) := dk_4 (dk_at dksX0_isTown_0 9 rfl rfl)
theorem dX0_isTown_10 : decode cX0_isTown 10 = .ok (.isub, 1) := dk_100 (dk_at dksX0_isTown_0 10 rfl rfl)
theorem dX0_isTown_11 : decode cX0_isTown 11 = .ok (.invokestatic 101, 3) := dk_184 0 101 (dk_at dksX0_isTown_0 11 rfl rfl)
theorem dX0_isTown_14 : decode cX0_isTown 14 = .ok (.ireturn, 1) := dk_172 (dk_at dksX0_isTown_0 14 rfl rfl)
abbrev cX0_bell : ByteArray := prog_1_method_11_code
def yX0_bell : MethodName := ⟨RX0, "bell", "(II)I"⟩
def dkwX0_bell_3 : List UInt8 := [27, 182, 0, 148, 172, 42, 27, 182, 0, 159, 172, 2, 172]
abbrev dktX0_bell_3 : List UInt8 := dkwX0_bell_3 ++ []
def dkwX0_bell_2 : List UInt8 := [42, 180, 0, 1, 180, 0, 138, 27, 46, 172, 42, 180, 0, 1, 180, 0, 156, 27, 46, 172, 42, 180, 0, 38]
abbrev dktX0_bell_2 : List UInt8 := dkwX0_bell_2 ++ dktX0_bell_3
def dkwX0_bell_1 : List UInt8 := [170, 0, 0, 0, 64, 0, 0, 0, 0, 0, 0, 0, 3, 0, 0, 0, 29, 0, 0, 0, 39, 0, 0, 0, 49, 0, 0, 0, 58]
abbrev dktX0_bell_1 : List UInt8 := dkwX0_bell_1 ++ dktX0_bell_2
def dkwX0_bell_0 : List UInt8 := [42, 27, 182, 0, 141, 154, 0, 5, 2, 172, 28]
abbrev dktX0_bell_0 : List UInt8 := dkwX0_bell_0 ++ dktX0_bell_1
theorem dksX0_bell_0 : cX0_bell.data.toList.drop 0 = dktX0_bell_0 := by decide +kernel
theorem dksX0_bell_1 : cX0_bell.data.toList.drop 11 = dktX0_bell_1 := dk_seg dksX0_bell_0 11 rfl rfl
theorem dksX0_bell_2 : cX0_bell.data.toList.drop 40 = dktX0_bell_2 := dk_seg dksX0_bell_1 29 rfl rfl
theorem dksX0_bell_3 : cX0_bell.data.toList.drop 64 = dktX0_bell_3 := dk_seg dksX0_bell_2 24 rfl rfl
theorem dX0_bell_0 : decode cX0_bell 0 = .ok (.aload_n 0, 1) := dk_42 (dk_at dksX0_bell_0 0 rfl rfl)
theorem dX0_bell_1 : decode cX0_bell 1 = .ok (.iload_n 1, 1) := dk_27 (dk_at dksX0_bell_0 1 rfl rfl)
theorem dX0_bell_2 : decode cX0_bell 2 = .ok (.invokevirtual 141, 3) := dk_182 0 141 (dk_at dksX0_bell_0 2 rfl rfl)
theorem dX0_bell_5 : decode cX0_bell 5 = .ok (.ifCond .ne 5, 3) := dk_154 0 5 (dk_at dksX0_bell_0 5 rfl rfl)
theorem dX0_bell_8 : decode cX0_bell 8 = .ok (.iconst (-1), 1) := dk_2 (dk_at dksX0_bell_0 8 rfl rfl)
theorem dX0_bell_9 : decode cX0_bell 9 = .ok (.ireturn, 1) := dk_172 (dk_at dksX0_bell_0 9 rfl rfl)
theorem dX0_bell_10 : decode cX0_bell 10 = .ok (.iload_n 2, 1) := dk_28 (dk_at dksX0_bell_0 10 rfl rfl)
theorem dX0_bell_11 : decode cX0_bell 11 = .ok (.tableswitch 64 0 3 #[29, 39, 49, 58], 29) := by decide +kernel
theorem dX0_bell_40 : decode cX0_bell 40 = .ok (.aload_n 0, 1) := dk_42 (dk_at dksX0_bell_2 0 rfl rfl)
theorem dX0_bell_41 : decode cX0_bell 41 = .ok (.getfield 1, 3) := dk_180 0 1 (dk_at dksX0_bell_2 1 rfl rfl)
theorem dX0_bell_44 : decode cX0_bell 44 = .ok (.getfield 138, 3) := dk_180 0 138 (dk_at dksX0_bell_2 4 rfl rfl)
theorem dX0_bell_47 : decode cX0_bell 47 = .ok (.iload_n 1, 1) := dk_27 (dk_at dksX0_bell_2 7 rfl rfl)
theorem dX0_bell_48 : decode cX0_bell 48 = .ok (.iaload, 1) := dk_46 (dk_at dksX0_bell_2 8 rfl rfl)
theorem dX0_bell_49 : decode cX0_bell 49 = .ok (.ireturn, 1) := dk_172 (dk_at dksX0_bell_2 9 rfl rfl)
theorem dX0_bell_50 : decode cX0_bell 50 = .ok (.aload_n 0, 1) := dk_42 (dk_at dksX0_bell_2 10 rfl rfl)
theorem dX0_bell_51 : decode cX0_bell 51 = .ok (.getfield 1, 3) := dk_180 0 1 (dk_at dksX0_bell_2 11 rfl rfl)
theorem dX0_bell_54 : decode cX0_bell 54 = .ok (.getfield 156, 3) := dk_180 0 156 (dk_at dksX0_bell_2 14 rfl rfl)
theorem dX0_bell_57 : decode cX0_bell 57 = .ok (.iload_n 1, 1) := dk_27 (dk_at dksX0_bell_2 17 rfl rfl)
theorem dX0_bell_58 : decode cX0_bell 58 = .ok (.iaload, 1) := dk_46 (dk_at dksX0_bell_2 18 rfl rfl)
theorem dX0_bell_59 : decode cX0_bell 59 = .ok (.ireturn, 1) := dk_172 (dk_at dksX0_bell_2 19 rfl rfl)
theorem dX0_bell_60 : decode cX0_bell 60 = .ok (.aload_n 0, 1) := dk_42 (dk_at dksX0_bell_2 20 rfl rfl)
theorem dX0_bell_61 : decode cX0_bell 61 = .ok (.getfield 38, 3) := dk_180 0 38 (dk_at dksX0_bell_2 21 rfl rfl)
theorem dX0_bell_64 : decode cX0_bell 64 = .ok (.iload_n 1, 1) := dk_27 (dk_at dksX0_bell_3 0 rfl rfl)
theorem dX0_bell_65 : decode cX0_bell 65 = .ok (.invokevirtual 148, 3) := dk_182 0 148 (dk_at dksX0_bell_3 1 rfl rfl)
theorem dX0_bell_68 : decode cX0_bell 68 = .ok (.ireturn, 1) := dk_172 (dk_at dksX0_bell_3 4 rfl rfl)
theorem dX0_bell_69 : decode cX0_bell 69 = .ok (.aload_n 0, 1) := dk_42 (dk_at dksX0_bell_3 5 rfl rfl)
theorem dX0_bell_70 : decode cX0_bell 70 = .ok (.iload_n 1, 1) := dk_27 (dk_at dksX0_bell_3 6 rfl rfl)
theorem dX0_bell_71 : decode cX0_bell 71 = .ok (.invokevirtual 159, 3) := dk_182 0 159 (dk_at dksX0_bell_3 7 rfl rfl)
theorem dX0_bell_74 : decode cX0_bell 74 = .ok (.ireturn, 1) := dk_172 (dk_at dksX0_bell_3 10 rfl rfl)
theorem dX0_bell_75 : decode cX0_bell 75 = .ok (.iconst (-1), 1) := dk_2 (dk_at dksX0_bell_3 11 rfl rfl)
theorem dX0_bell_76 : decode cX0_bell 76 = .ok (.ireturn, 1) := dk_172 (dk_at dksX0_bell_3 12 rfl rfl)
abbrev cX0_fits : ByteArray := prog_1_method_9_code
def yX0_fits : MethodName := ⟨RX0, "fits", "(I)I"⟩
def dkwX0_fits_2 : List UInt8 := [132, 3, 1, 167, 255, 211, 28, 172]
abbrev dktX0_fits_2 : List UInt8 := dkwX0_fits_2 ++ []
def dkwX0_fits_1 : List UInt8 := [46, 42, 180, 0, 1, 180, 0, 138, 27, 46, 161, 0, 9, 4, 29, 120, 167, 0, 4, 3, 128, 61]
abbrev dktX0_fits_1 : List UInt8 := dkwX0_fits_1 ++ dktX0_fits_2
def dkwX0_fits_0 : List UInt8 := [3, 61, 3, 62, 29, 42, 180, 0, 1, 180, 0, 7, 162, 0, 40, 28, 42, 180, 0, 38, 180, 0, 135, 29]
abbrev dktX0_fits_0 : List UInt8 := dkwX0_fits_0 ++ dktX0_fits_1
theorem dksX0_fits_0 : cX0_fits.data.toList.drop 0 = dktX0_fits_0 := by decide +kernel
theorem dksX0_fits_1 : cX0_fits.data.toList.drop 24 = dktX0_fits_1 := dk_seg dksX0_fits_0 24 rfl rfl
theorem dksX0_fits_2 : cX0_fits.data.toList.drop 46 = dktX0_fits_2 := dk_seg dksX0_fits_1 22 rfl rfl
theorem dX0_fits_0 : decode cX0_fits 0 = .ok (.iconst 0, 1) := dk_3 (dk_at dksX0_fits_0 0 rfl rfl)
theorem dX0_fits_1 : decode cX0_fits 1 = .ok (.istore_n 2, 1) := dk_61 (dk_at dksX0_fits_0 1 rfl rfl)
theorem dX0_fits_2 : decode cX0_fits 2 = .ok (.iconst 0, 1) := dk_3 (dk_at dksX0_fits_0 2 rfl rfl)
theorem dX0_fits_3 : decode cX0_fits 3 = .ok (.istore_n 3, 1) := dk_62 (dk_at dksX0_fits_0 3 rfl rfl)
theorem dX0_fits_4 : decode cX0_fits 4 = .ok (.iload_n 3, 1) := dk_29 (dk_at dksX0_fits_0 4 rfl rfl)
theorem dX0_fits_5 : decode cX0_fits 5 = .ok (.aload_n 0, 1) := dk_42 (dk_at dksX0_fits_0 5 rfl rfl)
theorem dX0_fits_6 : decode cX0_fits 6 = .ok (.getfield 1, 3) := dk_180 0 1 (dk_at dksX0_fits_0 6 rfl rfl)
theorem dX0_fits_9 : decode cX0_fits 9 = .ok (.getfield 7, 3) := dk_180 0 7 (dk_at dksX0_fits_0 9 rfl rfl)
theorem dX0_fits_12 : decode cX0_fits 12 = .ok (.if_icmp .ge 40, 3) := dk_162 0 40 (dk_at dksX0_fits_0 12 rfl rfl)
theorem dX0_fits_15 : decode cX0_fits 15 = .ok (.iload_n 2, 1) := dk_28 (dk_at dksX0_fits_0 15 rfl rfl)
theorem dX0_fits_16 : decode cX0_fits 16 = .ok (.aload_n 0, 1) := dk_42 (dk_at dksX0_fits_0 16 rfl rfl)
theorem dX0_fits_17 : decode cX0_fits 17 = .ok (.getfield 38, 3) := dk_180 0 38 (dk_at dksX0_fits_0 17 rfl rfl)
theorem dX0_fits_20 : decode cX0_fits 20 = .ok (.getfield 135, 3) := dk_180 0 135 (dk_at dksX0_fits_0 20 rfl rfl)
theorem dX0_fits_23 : decode cX0_fits 23 = .ok (.iload_n 3, 1) := dk_29 (dk_at dksX0_fits_0 23 rfl rfl)
theorem dX0_fits_24 : decode cX0_fits 24 = .ok (.iaload, 1) := dk_46 (dk_at dksX0_fits_1 0 rfl rfl)
theorem dX0_fits_25 : decode cX0_fits 25 = .ok (.aload_n 0, 1) := dk_42 (dk_at dksX0_fits_1 1 rfl rfl)
theorem dX0_fits_26 : decode cX0_fits 26 = .ok (.getfield 1, 3) := dk_180 0 1 (dk_at dksX0_fits_1 2 rfl rfl)
theorem dX0_fits_29 : decode cX0_fits 29 = .ok (.getfield 138, 3) := dk_180 0 138 (dk_at dksX0_fits_1 5 rfl rfl)
theorem dX0_fits_32 : decode cX0_fits 32 = .ok (.iload_n 1, 1) := dk_27 (dk_at dksX0_fits_1 8 rfl rfl)
theorem dX0_fits_33 : decode cX0_fits 33 = .ok (.iaload, 1) := dk_46 (dk_at dksX0_fits_1 9 rfl rfl)
theorem dX0_fits_34 : decode cX0_fits 34 = .ok (.if_icmp .lt 9, 3) := dk_161 0 9 (dk_at dksX0_fits_1 10 rfl rfl)
theorem dX0_fits_37 : decode cX0_fits 37 = .ok (.iconst 1, 1) := dk_4 (dk_at dksX0_fits_1 13 rfl rfl)
theorem dX0_fits_38 : decode cX0_fits 38 = .ok (.iload_n 3, 1) := dk_29 (dk_at dksX0_fits_1 14 rfl rfl)
theorem dX0_fits_39 : decode cX0_fits 39 = .ok (.ishl, 1) := dk_120 (dk_at dksX0_fits_1 15 rfl rfl)
theorem dX0_fits_40 : decode cX0_fits 40 = .ok (.goto 4, 3) := dk_167 0 4 (dk_at dksX0_fits_1 16 rfl rfl)
theorem dX0_fits_43 : decode cX0_fits 43 = .ok (.iconst 0, 1) := dk_3 (dk_at dksX0_fits_1 19 rfl rfl)
theorem dX0_fits_44 : decode cX0_fits 44 = .ok (.ior, 1) := dk_128 (dk_at dksX0_fits_1 20 rfl rfl)
theorem dX0_fits_45 : decode cX0_fits 45 = .ok (.istore_n 2, 1) := dk_61 (dk_at dksX0_fits_1 21 rfl rfl)
theorem dX0_fits_46 : decode cX0_fits 46 = .ok (.iinc 3 1, 3) := dk_132 3 1 (dk_at dksX0_fits_2 0 rfl rfl)
theorem dX0_fits_49 : decode cX0_fits 49 = .ok (.goto (-45), 3) := dk_167 255 211 (dk_at dksX0_fits_2 3 rfl rfl)
theorem dX0_fits_52 : decode cX0_fits 52 = .ok (.iload_n 2, 1) := dk_28 (dk_at dksX0_fits_2 6 rfl rfl)
theorem dX0_fits_53 : decode cX0_fits 53 = .ok (.ireturn, 1) := dk_172 (dk_at dksX0_fits_2 7 rfl rfl)
abbrev cX0_far : ByteArray := prog_1_method_12_code
def yX0_far : MethodName := ⟨RX0, "far", "(II)I"⟩
def dkwX0_far_2 : List UInt8 := [27, 50, 28, 46, 172]
abbrev dktX0_far_2 : List UInt8 := dkwX0_far_2 ++ []
def dkwX0_far_1 : List UInt8 := [180, 0, 162, 27, 50, 28, 46, 18, 166, 161, 0, 8, 16, 247, 167, 0, 14, 42, 180, 0, 1, 180, 0, 162]
abbrev dktX0_far_1 : List UInt8 := dkwX0_far_1 ++ dktX0_far_2
def dkwX0_far_0 : List UInt8 := [42, 27, 182, 0, 141, 153, 0, 11, 42, 28, 182, 0, 141, 154, 0, 5, 2, 172, 42, 180, 0, 1]
abbrev dktX0_far_0 : List UInt8 := dkwX0_far_0 ++ dktX0_far_1
theorem dksX0_far_0 : cX0_far.data.toList.drop 0 = dktX0_far_0 := by decide +kernel
theorem dksX0_far_1 : cX0_far.data.toList.drop 22 = dktX0_far_1 := dk_seg dksX0_far_0 22 rfl rfl
theorem dksX0_far_2 : cX0_far.data.toList.drop 46 = dktX0_far_2 := dk_seg dksX0_far_1 24 rfl rfl
theorem dX0_far_0 : decode cX0_far 0 = .ok (.aload_n 0, 1) := dk_42 (dk_at dksX0_far_0 0 rfl rfl)
theorem dX0_far_1 : decode cX0_far 1 = .ok (.iload_n 1, 1) := dk_27 (dk_at dksX0_far_0 1 rfl rfl)
theorem dX0_far_2 : decode cX0_far 2 = .ok (.invokevirtual 141, 3) := dk_182 0 141 (dk_at dksX0_far_0 2 rfl rfl)
theorem dX0_far_5 : decode cX0_far 5 = .ok (.ifCond .eq 11, 3) := dk_153 0 11 (dk_at dksX0_far_0 5 rfl rfl)
theorem dX0_far_8 : decode cX0_far 8 = .ok (.aload_n 0, 1) := dk_42 (dk_at dksX0_far_0 8 rfl rfl)
theorem dX0_far_9 : decode cX0_far 9 = .ok (.iload_n 2, 1) := dk_28 (dk_at dksX0_far_0 9 rfl rfl)
theorem dX0_far_10 : decode cX0_far 10 = .ok (.invokevirtual 141, 3) := dk_182 0 141 (dk_at dksX0_far_0 10 rfl rfl)
theorem dX0_far_13 : decode cX0_far 13 = .ok (.ifCond .ne 5, 3) := dk_154 0 5 (dk_at dksX0_far_0 13 rfl rfl)
theorem dX0_far_16 : decode cX0_far 16 = .ok (.iconst (-1), 1) := dk_2 (dk_at dksX0_far_0 16 rfl rfl)
theorem dX0_far_17 : decode cX0_far 17 = .ok (.ireturn, 1) := dk_172 (dk_at dksX0_far_0 17 rfl rfl)
theorem dX0_far_18 : decode cX0_far 18 = .ok (.aload_n 0, 1) := dk_42 (dk_at dksX0_far_0 18 rfl rfl)
theorem dX0_far_19 : decode cX0_far 19 = .ok (.getfield 1, 3) := dk_180 0 1 (dk_at dksX0_far_0 19 rfl rfl)
theorem dX0_far_22 : decode cX0_far 22 = .ok (.getfield 162, 3) := dk_180 0 162 (dk_at dksX0_far_1 0 rfl rfl)
theorem dX0_far_25 : decode cX0_far 25 = .ok (.iload_n 1, 1) := dk_27 (dk_at dksX0_far_1 3 rfl rfl)
theorem dX0_far_26 : decode cX0_far 26 = .ok (.aaload, 1) := dk_50 (dk_at dksX0_far_1 4 rfl rfl)
theorem dX0_far_27 : decode cX0_far 27 = .ok (.iload_n 2, 1) := dk_28 (dk_at dksX0_far_1 5 rfl rfl)
theorem dX0_far_28 : decode cX0_far 28 = .ok (.iaload, 1) := dk_46 (dk_at dksX0_far_1 6 rfl rfl)
theorem dX0_far_29 : decode cX0_far 29 = .ok (.ldc 166, 2) := dk_18 166 (dk_at dksX0_far_1 7 rfl rfl)
theorem dX0_far_31 : decode cX0_far 31 = .ok (.if_icmp .lt 8, 3) := dk_161 0 8 (dk_at dksX0_far_1 9 rfl rfl)
theorem dX0_far_34 : decode cX0_far 34 = .ok (.bipush (-9), 2) := dk_16 247 (dk_at dksX0_far_1 12 rfl rfl)
theorem dX0_far_36 : decode cX0_far 36 = .ok (.goto 14, 3) := dk_167 0 14 (dk_at dksX0_far_1 14 rfl rfl)
theorem dX0_far_39 : decode cX0_far 39 = .ok (.aload_n 0, 1) := dk_42 (dk_at dksX0_far_1 17 rfl rfl)
theorem dX0_far_40 : decode cX0_far 40 = .ok (.getfield 1, 3) := dk_180 0 1 (dk_at dksX0_far_1 18 rfl rfl)
theorem dX0_far_43 : decode cX0_far 43 = .ok (.getfield 162, 3) := dk_180 0 162 (dk_at dksX0_far_1 21 rfl rfl)
theorem dX0_far_46 : decode cX0_far 46 = .ok (.iload_n 1, 1) := dk_27 (dk_at dksX0_far_2 0 rfl rfl)
theorem dX0_far_47 : decode cX0_far 47 = .ok (.aaload, 1) := dk_50 (dk_at dksX0_far_2 1 rfl rfl)
theorem dX0_far_48 : decode cX0_far 48 = .ok (.iload_n 2, 1) := dk_28 (dk_at dksX0_far_2 2 rfl rfl)
theorem dX0_far_49 : decode cX0_far 49 = .ok (.iaload, 1) := dk_46 (dk_at dksX0_far_2 3 rfl rfl)
theorem dX0_far_50 : decode cX0_far 50 = .ok (.ireturn, 1) := dk_172 (dk_at dksX0_far_2 4 rfl rfl)
abbrev cX0_oath : ByteArray := prog_1_method_13_code
def yX0_oath : MethodName := ⟨RX0, "oath", "(II)I"⟩
def dkwX0_oath_3 : List UInt8 := [180, 0, 176, 27, 46, 167, 0, 12, 42, 180, 0, 38, 180, 0, 179, 27, 46, 172]
abbrev dktX0_oath_3 : List UInt8 := dkwX0_oath_3 ++ []
def dkwX0_oath_2 : List UInt8 := [160, 0, 15, 42, 180, 0, 1, 180, 0, 173, 27, 46, 167, 0, 29, 28, 5, 160, 0, 15, 42, 180, 0, 1]
abbrev dktX0_oath_2 : List UInt8 := dkwX0_oath_2 ++ dktX0_oath_3
def dkwX0_oath_1 : List UInt8 := [154, 0, 5, 2, 172, 28, 154, 0, 15, 42, 180, 0, 1, 180, 0, 170, 27, 46, 167, 0, 46, 28, 4]
abbrev dktX0_oath_1 : List UInt8 := dkwX0_oath_1 ++ dktX0_oath_2
def dkwX0_oath_0 : List UInt8 := [27, 3, 42, 180, 0, 1, 180, 0, 167, 4, 100, 184, 0, 101, 153, 0, 12, 28, 3, 6, 184, 0, 101]
abbrev dktX0_oath_0 : List UInt8 := dkwX0_oath_0 ++ dktX0_oath_1
theorem dksX0_oath_0 : cX0_oath.data.toList.drop 0 = dktX0_oath_0 := by decide +kernel
theorem dksX0_oath_1 : cX0_oath.data.toList.drop 23 = dktX0_oath_1 := dk_seg dksX0_oath_0 23 rfl rfl
theorem dksX0_oath_2 : cX0_oath.data.toList.drop 46 = dktX0_oath_2 := dk_seg dksX0_oath_1 23 rfl rfl
theorem dksX0_oath_3 : cX0_oath.data.toList.drop 70 = dktX0_oath_3 := dk_seg dksX0_oath_2 24 rfl rfl
theorem dX0_oath_0 : decode cX0_oath 0 = .ok (.iload_n 1, 1) := dk_27 (dk_at dksX0_oath_0 0 rfl rfl)
theorem dX0_oath_1 : decode cX0_oath 1 = .ok (.iconst 0, 1) := dk_3 (dk_at dksX0_oath_0 1 rfl rfl)
theorem dX0_oath_2 : decode cX0_oath 2 = .ok (.aload_n 0, 1) := dk_42 (dk_at dksX0_oath_0 2 rfl rfl)
theorem dX0_oath_3 : decode cX0_oath 3 = .ok (.getfield 1, 3) := dk_180 0 1 (dk_at dksX0_oath_0 3 rfl rfl)
theorem dX0_oath_6 : decode cX0_oath 6 = .ok (.getfield 167, 3) := dk_180 0 167 (dk_at dksX0_oath_0 6 rfl rfl)
theorem dX0_oath_9 : decode cX0_oath 9 = .ok (.iconst 1, 1) := dk_4 (dk_at dksX0_oath_0 9 rfl rfl)
theorem dX0_oath_10 : decode cX0_oath 10 = .ok (.isub, 1) := dk_100 (dk_at dksX0_oath_0 10 rfl rfl)
theorem dX0_oath_11 : decode cX0_oath 11 = .ok (.invokestatic 101, 3) := dk_184 0 101 (dk_at dksX0_oath_0 11 rfl rfl)
theorem dX0_oath_14 : decode cX0_oath 14 = .ok (.ifCond .eq 12, 3) := dk_153 0 12 (dk_at dksX0_oath_0 14 rfl rfl)
theorem dX0_oath_17 : decode cX0_oath 17 = .ok (.iload_n 2, 1) := dk_28 (dk_at dksX0_oath_0 17 rfl rfl)
theorem dX0_oath_18 : decode cX0_oath 18 = .ok (.iconst 0, 1) := dk_3 (dk_at dksX0_oath_0 18 rfl rfl)
theorem dX0_oath_19 : decode cX0_oath 19 = .ok (.iconst 3, 1) := dk_6 (dk_at dksX0_oath_0 19 rfl rfl)
theorem dX0_oath_20 : decode cX0_oath 20 = .ok (.invokestatic 101, 3) := dk_184 0 101 (dk_at dksX0_oath_0 20 rfl rfl)
theorem dX0_oath_23 : decode cX0_oath 23 = .ok (.ifCond .ne 5, 3) := dk_154 0 5 (dk_at dksX0_oath_1 0 rfl rfl)
theorem dX0_oath_26 : decode cX0_oath 26 = .ok (.iconst (-1), 1) := dk_2 (dk_at dksX0_oath_1 3 rfl rfl)
theorem dX0_oath_27 : decode cX0_oath 27 = .ok (.ireturn, 1) := dk_172 (dk_at dksX0_oath_1 4 rfl rfl)
theorem dX0_oath_28 : decode cX0_oath 28 = .ok (.iload_n 2, 1) := dk_28 (dk_at dksX0_oath_1 5 rfl rfl)
theorem dX0_oath_29 : decode cX0_oath 29 = .ok (.ifCond .ne 15, 3) := dk_154 0 15 (dk_at dksX0_oath_1 6 rfl rfl)
theorem dX0_oath_32 : decode cX0_oath 32 = .ok (.aload_n 0, 1) := dk_42 (dk_at dksX0_oath_1 9 rfl rfl)
theorem dX0_oath_33 : decode cX0_oath 33 = .ok (.getfield 1, 3) := dk_180 0 1 (dk_at dksX0_oath_1 10 rfl rfl)
theorem dX0_oath_36 : decode cX0_oath 36 = .ok (.getfield 170, 3) := dk_180 0 170 (dk_at dksX0_oath_1 13 rfl rfl)
theorem dX0_oath_39 : decode cX0_oath 39 = .ok (.iload_n 1, 1) := dk_27 (dk_at dksX0_oath_1 16 rfl rfl)
theorem dX0_oath_40 : decode cX0_oath 40 = .ok (.iaload, 1) := dk_46 (dk_at dksX0_oath_1 17 rfl rfl)
theorem dX0_oath_41 : decode cX0_oath 41 = .ok (.goto 46, 3) := dk_167 0 46 (dk_at dksX0_oath_1 18 rfl rfl)
theorem dX0_oath_44 : decode cX0_oath 44 = .ok (.iload_n 2, 1) := dk_28 (dk_at dksX0_oath_1 21 rfl rfl)
theorem dX0_oath_45 : decode cX0_oath 45 = .ok (.iconst 1, 1) := dk_4 (dk_at dksX0_oath_1 22 rfl rfl)
theorem dX0_oath_46 : decode cX0_oath 46 = .ok (.if_icmp .ne 15, 3) := dk_160 0 15 (dk_at dksX0_oath_2 0 rfl rfl)
theorem dX0_oath_49 : decode cX0_oath 49 = .ok (.aload_n 0, 1) := dk_42 (dk_at dksX0_oath_2 3 rfl rfl)
theorem dX0_oath_50 : decode cX0_oath 50 = .ok (.getfield 1, 3) := dk_180 0 1 (dk_at dksX0_oath_2 4 rfl rfl)
theorem dX0_oath_53 : decode cX0_oath 53 = .ok (.getfield 173, 3) := dk_180 0 173 (dk_at dksX0_oath_2 7 rfl rfl)
theorem dX0_oath_56 : decode cX0_oath 56 = .ok (.iload_n 1, 1) := dk_27 (dk_at dksX0_oath_2 10 rfl rfl)
theorem dX0_oath_57 : decode cX0_oath 57 = .ok (.iaload, 1) := dk_46 (dk_at dksX0_oath_2 11 rfl rfl)
theorem dX0_oath_58 : decode cX0_oath 58 = .ok (.goto 29, 3) := dk_167 0 29 (dk_at dksX0_oath_2 12 rfl rfl)
theorem dX0_oath_61 : decode cX0_oath 61 = .ok (.iload_n 2, 1) := dk_28 (dk_at dksX0_oath_2 15 rfl rfl)
theorem dX0_oath_62 : decode cX0_oath 62 = .ok (.iconst 2, 1) := dk_5 (dk_at dksX0_oath_2 16 rfl rfl)
theorem dX0_oath_63 : decode cX0_oath 63 = .ok (.if_icmp .ne 15, 3) := dk_160 0 15 (dk_at dksX0_oath_2 17 rfl rfl)
theorem dX0_oath_66 : decode cX0_oath 66 = .ok (.aload_n 0, 1) := dk_42 (dk_at dksX0_oath_2 20 rfl rfl)
theorem dX0_oath_67 : decode cX0_oath 67 = .ok (.getfield 1, 3) := dk_180 0 1 (dk_at dksX0_oath_2 21 rfl rfl)
theorem dX0_oath_70 : decode cX0_oath 70 = .ok (.getfield 176, 3) := dk_180 0 176 (dk_at dksX0_oath_3 0 rfl rfl)
theorem dX0_oath_73 : decode cX0_oath 73 = .ok (.iload_n 1, 1) := dk_27 (dk_at dksX0_oath_3 3 rfl rfl)
theorem dX0_oath_74 : decode cX0_oath 74 = .ok (.iaload, 1) := dk_46 (dk_at dksX0_oath_3 4 rfl rfl)
theorem dX0_oath_75 : decode cX0_oath 75 = .ok (.goto 12, 3) := dk_167 0 12 (dk_at dksX0_oath_3 5 rfl rfl)
theorem dX0_oath_78 : decode cX0_oath 78 = .ok (.aload_n 0, 1) := dk_42 (dk_at dksX0_oath_3 8 rfl rfl)
theorem dX0_oath_79 : decode cX0_oath 79 = .ok (.getfield 38, 3) := dk_180 0 38 (dk_at dksX0_oath_3 9 rfl rfl)
theorem dX0_oath_82 : decode cX0_oath 82 = .ok (.getfield 179, 3) := dk_180 0 179 (dk_at dksX0_oath_3 12 rfl rfl)
theorem dX0_oath_85 : decode cX0_oath 85 = .ok (.iload_n 1, 1) := dk_27 (dk_at dksX0_oath_3 15 rfl rfl)
theorem dX0_oath_86 : decode cX0_oath 86 = .ok (.iaload, 1) := dk_46 (dk_at dksX0_oath_3 16 rfl rfl)
theorem dX0_oath_87 : decode cX0_oath 87 = .ok (.ireturn, 1) := dk_172 (dk_at dksX0_oath_3 17 rfl rfl)
abbrev cX0_now : ByteArray := prog_1_method_14_code
def yX0_now : MethodName := ⟨RX0, "now", "(I)I"⟩
def dkwX0_now_3 : List UInt8 := [42, 180, 0, 38, 182, 0, 152, 172, 42, 180, 0, 120, 172, 2, 172]
abbrev dktX0_now_3 : List UInt8 := dkwX0_now_3 ++ []
def dkwX0_now_2 : List UInt8 := [42, 180, 0, 38, 180, 0, 182, 172, 42, 180, 0, 38, 180, 0, 185, 172, 42, 180, 0, 38, 182, 0, 188, 172]
abbrev dktX0_now_2 : List UInt8 := dkwX0_now_2 ++ dktX0_now_3
def dkwX0_now_1 : List UInt8 := [170, 0, 0, 0, 0, 0, 72, 0, 0, 0, 0, 0, 0, 0, 4, 0, 0, 0, 35, 0, 0, 0, 43, 0, 0, 0, 51, 0, 0, 0, 59, 0, 0, 0, 67]
abbrev dktX0_now_1 : List UInt8 := dkwX0_now_1 ++ dktX0_now_2
def dkwX0_now_0 : List UInt8 := [27]
abbrev dktX0_now_0 : List UInt8 := dkwX0_now_0 ++ dktX0_now_1
theorem dksX0_now_0 : cX0_now.data.toList.drop 0 = dktX0_now_0 := by decide +kernel
theorem dksX0_now_1 : cX0_now.data.toList.drop 1 = dktX0_now_1 := dk_seg dksX0_now_0 1 rfl rfl
theorem dksX0_now_2 : cX0_now.data.toList.drop 36 = dktX0_now_2 := dk_seg dksX0_now_1 35 rfl rfl
theorem dksX0_now_3 : cX0_now.data.toList.drop 60 = dktX0_now_3 := dk_seg dksX0_now_2 24 rfl rfl
theorem dX0_now_0 : decode cX0_now 0 = .ok (.iload_n 1, 1) := dk_27 (dk_at dksX0_now_0 0 rfl rfl)
theorem dX0_now_1 : decode cX0_now 1 = .ok (.tableswitch 72 0 4 #[35, 43, 51, 59, 67], 35) := by decide +kernel
theorem dX0_now_36 : decode cX0_now 36 = .ok (.aload_n 0, 1) := dk_42 (dk_at dksX0_now_2 0 rfl rfl)
theorem dX0_now_37 : decode cX0_now 37 = .ok (.getfield 38, 3) := dk_180 0 38 (dk_at dksX0_now_2 1 rfl rfl)
theorem dX0_now_40 : decode cX0_now 40 = .ok (.getfield 182, 3) := dk_180 0 182 (dk_at dksX0_now_2 4 rfl rfl)
theorem dX0_now_43 : decode cX0_now 43 = .ok (.ireturn, 1) := dk_172 (dk_at dksX0_now_2 7 rfl rfl)
theorem dX0_now_44 : decode cX0_now 44 = .ok (.aload_n 0, 1) := dk_42 (dk_at dksX0_now_2 8 rfl rfl)
theorem dX0_now_45 : decode cX0_now 45 = .ok (.getfield 38, 3) := dk_180 0 38 (dk_at dksX0_now_2 9 rfl rfl)
theorem dX0_now_48 : decode cX0_now 48 = .ok (.getfield 185, 3) := dk_180 0 185 (dk_at dksX0_now_2 12 rfl rfl)
theorem dX0_now_51 : decode cX0_now 51 = .ok (.ireturn, 1) := dk_172 (dk_at dksX0_now_2 15 rfl rfl)
theorem dX0_now_52 : decode cX0_now 52 = .ok (.aload_n 0, 1) := dk_42 (dk_at dksX0_now_2 16 rfl rfl)
theorem dX0_now_53 : decode cX0_now 53 = .ok (.getfield 38, 3) := dk_180 0 38 (dk_at dksX0_now_2 17 rfl rfl)
theorem dX0_now_56 : decode cX0_now 56 = .ok (.invokevirtual 188, 3) := dk_182 0 188 (dk_at dksX0_now_2 20 rfl rfl)
theorem dX0_now_59 : decode cX0_now 59 = .ok (.ireturn, 1) := dk_172 (dk_at dksX0_now_2 23 rfl rfl)
theorem dX0_now_60 : decode cX0_now 60 = .ok (.aload_n 0, 1) := dk_42 (dk_at dksX0_now_3 0 rfl rfl)
theorem dX0_now_61 : decode cX0_now 61 = .ok (.getfield 38, 3) := dk_180 0 38 (dk_at dksX0_now_3 1 rfl rfl)
theorem dX0_now_64 : decode cX0_now 64 = .ok (.invokevirtual 152, 3) := dk_182 0 152 (dk_at dksX0_now_3 4 rfl rfl)
theorem dX0_now_67 : decode cX0_now 67 = .ok (.ireturn, 1) := dk_172 (dk_at dksX0_now_3 7 rfl rfl)
theorem dX0_now_68 : decode cX0_now 68 = .ok (.aload_n 0, 1) := dk_42 (dk_at dksX0_now_3 8 rfl rfl)
theorem dX0_now_69 : decode cX0_now 69 = .ok (.getfield 120, 3) := dk_180 0 120 (dk_at dksX0_now_3 9 rfl rfl)
theorem dX0_now_72 : decode cX0_now 72 = .ok (.ireturn, 1) := dk_172 (dk_at dksX0_now_3 12 rfl rfl)
theorem dX0_now_73 : decode cX0_now 73 = .ok (.iconst (-1), 1) := dk_2 (dk_at dksX0_now_3 13 rfl rfl)
theorem dX0_now_74 : decode cX0_now 74 = .ok (.ireturn, 1) := dk_172 (dk_at dksX0_now_3 14 rfl rfl)
abbrev cX0_lots : ByteArray := prog_1_method_17_code
def yX0_lots : MethodName := ⟨RX0, "lots", "(I)I"⟩
def dkwX0_lots_1 : List UInt8 := [42, 182, 0, 204, 42, 180, 0, 38, 27, 182, 0, 207, 172]
abbrev dktX0_lots_1 : List UInt8 := dkwX0_lots_1 ++ []
def dkwX0_lots_0 : List UInt8 := [27, 184, 0, 201, 154, 0, 5, 2, 172, 42, 180, 0, 38, 180, 0, 182, 16, 60, 160, 0, 6, 16, 254, 172]
abbrev dktX0_lots_0 : List UInt8 := dkwX0_lots_0 ++ dktX0_lots_1
theorem dksX0_lots_0 : cX0_lots.data.toList.drop 0 = dktX0_lots_0 := by decide +kernel
theorem dksX0_lots_1 : cX0_lots.data.toList.drop 24 = dktX0_lots_1 := dk_seg dksX0_lots_0 24 rfl rfl
theorem dX0_lots_0 : decode cX0_lots 0 = .ok (.iload_n 1, 1) := dk_27 (dk_at dksX0_lots_0 0 rfl rfl)
theorem dX0_lots_1 : decode cX0_lots 1 = .ok (.invokestatic 201, 3) := dk_184 0 201 (dk_at dksX0_lots_0 1 rfl rfl)
theorem dX0_lots_4 : decode cX0_lots 4 = .ok (.ifCond .ne 5, 3) := dk_154 0 5 (dk_at dksX0_lots_0 4 rfl rfl)
theorem dX0_lots_7 : decode cX0_lots 7 = .ok (.iconst (-1), 1) := dk_2 (dk_at dksX0_lots_0 7 rfl rfl)
theorem dX0_lots_8 : decode cX0_lots 8 = .ok (.ireturn, 1) := dk_172 (dk_at dksX0_lots_0 8 rfl rfl)
theorem dX0_lots_9 : decode cX0_lots 9 = .ok (.aload_n 0, 1) := dk_42 (dk_at dksX0_lots_0 9 rfl rfl)
theorem dX0_lots_10 : decode cX0_lots 10 = .ok (.getfield 38, 3) := dk_180 0 38 (dk_at dksX0_lots_0 10 rfl rfl)
theorem dX0_lots_13 : decode cX0_lots 13 = .ok (.getfield 182, 3) := dk_180 0 182 (dk_at dksX0_lots_0 13 rfl rfl)
theorem dX0_lots_16 : decode cX0_lots 16 = .ok (.bipush 60, 2) := dk_16 60 (dk_at dksX0_lots_0 16 rfl rfl)
theorem dX0_lots_18 : decode cX0_lots 18 = .ok (.if_icmp .ne 6, 3) := dk_160 0 6 (dk_at dksX0_lots_0 18 rfl rfl)
theorem dX0_lots_21 : decode cX0_lots 21 = .ok (.bipush (-2), 2) := dk_16 254 (dk_at dksX0_lots_0 21 rfl rfl)
theorem dX0_lots_23 : decode cX0_lots 23 = .ok (.ireturn, 1) := dk_172 (dk_at dksX0_lots_0 23 rfl rfl)
theorem dX0_lots_24 : decode cX0_lots 24 = .ok (.aload_n 0, 1) := dk_42 (dk_at dksX0_lots_1 0 rfl rfl)
theorem dX0_lots_25 : decode cX0_lots 25 = .ok (.invokevirtual 204, 3) := dk_182 0 204 (dk_at dksX0_lots_1 1 rfl rfl)
theorem dX0_lots_28 : decode cX0_lots 28 = .ok (.aload_n 0, 1) := dk_42 (dk_at dksX0_lots_1 4 rfl rfl)
theorem dX0_lots_29 : decode cX0_lots 29 = .ok (.getfield 38, 3) := dk_180 0 38 (dk_at dksX0_lots_1 5 rfl rfl)
theorem dX0_lots_32 : decode cX0_lots 32 = .ok (.iload_n 1, 1) := dk_27 (dk_at dksX0_lots_1 8 rfl rfl)
theorem dX0_lots_33 : decode cX0_lots 33 = .ok (.invokevirtual 207, 3) := dk_182 0 207 (dk_at dksX0_lots_1 9 rfl rfl)
theorem dX0_lots_36 : decode cX0_lots 36 = .ok (.ireturn, 1) := dk_172 (dk_at dksX0_lots_1 12 rfl rfl)
abbrev cX0_isSeed : ByteArray := prog_1_method_16_code
def yX0_isSeed : MethodName := ⟨RX0, "isSeed", "(I)Z"⟩
def dkwX0_isSeed_0 : List UInt8 := [26, 3, 17, 39, 15, 184, 0, 101, 172]
abbrev dktX0_isSeed_0 : List UInt8 := dkwX0_isSeed_0 ++ []
theorem dksX0_isSeed_0 : cX0_isSeed.data.toList.drop 0 = dktX0_isSeed_0 := by decide +kernel
theorem dX0_isSeed_0 : decode cX0_isSeed 0 = .ok (.iload_n 0, 1) := dk_26 (dk_at dksX0_isSeed_0 0 rfl rfl)
theorem dX0_isSeed_1 : decode cX0_isSeed 1 = .ok (.iconst 0, 1) := dk_3 (dk_at dksX0_isSeed_0 1 rfl rfl)
theorem dX0_isSeed_2 : decode cX0_isSeed 2 = .ok (.sipush 9999, 3) := dk_17 39 15 (dk_at dksX0_isSeed_0 2 rfl rfl)
theorem dX0_isSeed_5 : decode cX0_isSeed 5 = .ok (.invokestatic 101, 3) := dk_184 0 101 (dk_at dksX0_isSeed_0 5 rfl rfl)
theorem dX0_isSeed_8 : decode cX0_isSeed 8 = .ok (.ireturn, 1) := dk_172 (dk_at dksX0_isSeed_0 8 rfl rfl)
abbrev cX0_know : ByteArray := prog_1_method_15_code
def yX0_know : MethodName := ⟨RX0, "know", "()V"⟩
def dkwX0_know_3 : List UInt8 := [4, 96, 181, 0, 120, 177]
abbrev dktX0_know_3 : List UInt8 := dkwX0_know_3 ++ []
def dkwX0_know_2 : List UInt8 := [181, 0, 120, 42, 180, 0, 49, 42, 180, 0, 120, 50, 42, 180, 0, 38, 182, 0, 197, 42, 89, 180, 0, 120]
abbrev dktX0_know_2 : List UInt8 := dkwX0_know_2 ++ dktX0_know_3
def dkwX0_know_1 : List UInt8 := [180, 0, 49, 3, 16, 9, 184, 0, 191, 42, 180, 0, 49, 16, 9, 43, 83, 42, 89, 180, 0, 120, 4, 100]
abbrev dktX0_know_1 : List UInt8 := dkwX0_know_1 ++ dktX0_know_2
def dkwX0_know_0 : List UInt8 := [42, 180, 0, 120, 16, 10, 160, 0, 43, 42, 180, 0, 49, 3, 50, 76, 42, 180, 0, 49, 4, 42]
abbrev dktX0_know_0 : List UInt8 := dkwX0_know_0 ++ dktX0_know_1
theorem dksX0_know_0 : cX0_know.data.toList.drop 0 = dktX0_know_0 := by decide +kernel
theorem dksX0_know_1 : cX0_know.data.toList.drop 22 = dktX0_know_1 := dk_seg dksX0_know_0 22 rfl rfl
theorem dksX0_know_2 : cX0_know.data.toList.drop 46 = dktX0_know_2 := dk_seg dksX0_know_1 24 rfl rfl
theorem dksX0_know_3 : cX0_know.data.toList.drop 70 = dktX0_know_3 := dk_seg dksX0_know_2 24 rfl rfl
theorem dX0_know_0 : decode cX0_know 0 = .ok (.aload_n 0, 1) := dk_42 (dk_at dksX0_know_0 0 rfl rfl)
theorem dX0_know_1 : decode cX0_know 1 = .ok (.getfield 120, 3) := dk_180 0 120 (dk_at dksX0_know_0 1 rfl rfl)
theorem dX0_know_4 : decode cX0_know 4 = .ok (.bipush 10, 2) := dk_16 10 (dk_at dksX0_know_0 4 rfl rfl)
theorem dX0_know_6 : decode cX0_know 6 = .ok (.if_icmp .ne 43, 3) := dk_160 0 43 (dk_at dksX0_know_0 6 rfl rfl)
theorem dX0_know_9 : decode cX0_know 9 = .ok (.aload_n 0, 1) := dk_42 (dk_at dksX0_know_0 9 rfl rfl)
theorem dX0_know_10 : decode cX0_know 10 = .ok (.getfield 49, 3) := dk_180 0 49 (dk_at dksX0_know_0 10 rfl rfl)
theorem dX0_know_13 : decode cX0_know 13 = .ok (.iconst 0, 1) := dk_3 (dk_at dksX0_know_0 13 rfl rfl)
theorem dX0_know_14 : decode cX0_know 14 = .ok (.aaload, 1) := dk_50 (dk_at dksX0_know_0 14 rfl rfl)
theorem dX0_know_15 : decode cX0_know 15 = .ok (.astore_n 1, 1) := dk_76 (dk_at dksX0_know_0 15 rfl rfl)
theorem dX0_know_16 : decode cX0_know 16 = .ok (.aload_n 0, 1) := dk_42 (dk_at dksX0_know_0 16 rfl rfl)
theorem dX0_know_17 : decode cX0_know 17 = .ok (.getfield 49, 3) := dk_180 0 49 (dk_at dksX0_know_0 17 rfl rfl)
theorem dX0_know_20 : decode cX0_know 20 = .ok (.iconst 1, 1) := dk_4 (dk_at dksX0_know_0 20 rfl rfl)
theorem dX0_know_21 : decode cX0_know 21 = .ok (.aload_n 0, 1) := dk_42 (dk_at dksX0_know_0 21 rfl rfl)
theorem dX0_know_22 : decode cX0_know 22 = .ok (.getfield 49, 3) := dk_180 0 49 (dk_at dksX0_know_1 0 rfl rfl)
theorem dX0_know_25 : decode cX0_know 25 = .ok (.iconst 0, 1) := dk_3 (dk_at dksX0_know_1 3 rfl rfl)
theorem dX0_know_26 : decode cX0_know 26 = .ok (.bipush 9, 2) := dk_16 9 (dk_at dksX0_know_1 4 rfl rfl)
theorem dX0_know_28 : decode cX0_know 28 = .ok (.invokestatic 191, 3) := dk_184 0 191 (dk_at dksX0_know_1 6 rfl rfl)
theorem dX0_know_31 : decode cX0_know 31 = .ok (.aload_n 0, 1) := dk_42 (dk_at dksX0_know_1 9 rfl rfl)
theorem dX0_know_32 : decode cX0_know 32 = .ok (.getfield 49, 3) := dk_180 0 49 (dk_at dksX0_know_1 10 rfl rfl)
theorem dX0_know_35 : decode cX0_know 35 = .ok (.bipush 9, 2) := dk_16 9 (dk_at dksX0_know_1 13 rfl rfl)
theorem dX0_know_37 : decode cX0_know 37 = .ok (.aload_n 1, 1) := dk_43 (dk_at dksX0_know_1 15 rfl rfl)
theorem dX0_know_38 : decode cX0_know 38 = .ok (.aastore, 1) := dk_83 (dk_at dksX0_know_1 16 rfl rfl)
theorem dX0_know_39 : decode cX0_know 39 = .ok (.aload_n 0, 1) := dk_42 (dk_at dksX0_know_1 17 rfl rfl)
theorem dX0_know_40 : decode cX0_know 40 = .ok (.dup, 1) := dk_89 (dk_at dksX0_know_1 18 rfl rfl)
theorem dX0_know_41 : decode cX0_know 41 = .ok (.getfield 120, 3) := dk_180 0 120 (dk_at dksX0_know_1 19 rfl rfl)
theorem dX0_know_44 : decode cX0_know 44 = .ok (.iconst 1, 1) := dk_4 (dk_at dksX0_know_1 22 rfl rfl)
theorem dX0_know_45 : decode cX0_know 45 = .ok (.isub, 1) := dk_100 (dk_at dksX0_know_1 23 rfl rfl)
theorem dX0_know_46 : decode cX0_know 46 = .ok (.putfield 120, 3) := dk_181 0 120 (dk_at dksX0_know_2 0 rfl rfl)
theorem dX0_know_49 : decode cX0_know 49 = .ok (.aload_n 0, 1) := dk_42 (dk_at dksX0_know_2 3 rfl rfl)
theorem dX0_know_50 : decode cX0_know 50 = .ok (.getfield 49, 3) := dk_180 0 49 (dk_at dksX0_know_2 4 rfl rfl)
theorem dX0_know_53 : decode cX0_know 53 = .ok (.aload_n 0, 1) := dk_42 (dk_at dksX0_know_2 7 rfl rfl)
theorem dX0_know_54 : decode cX0_know 54 = .ok (.getfield 120, 3) := dk_180 0 120 (dk_at dksX0_know_2 8 rfl rfl)
theorem dX0_know_57 : decode cX0_know 57 = .ok (.aaload, 1) := dk_50 (dk_at dksX0_know_2 11 rfl rfl)
theorem dX0_know_58 : decode cX0_know 58 = .ok (.aload_n 0, 1) := dk_42 (dk_at dksX0_know_2 12 rfl rfl)
theorem dX0_know_59 : decode cX0_know 59 = .ok (.getfield 38, 3) := dk_180 0 38 (dk_at dksX0_know_2 13 rfl rfl)
theorem dX0_know_62 : decode cX0_know 62 = .ok (.invokevirtual 197, 3) := dk_182 0 197 (dk_at dksX0_know_2 16 rfl rfl)
theorem dX0_know_65 : decode cX0_know 65 = .ok (.aload_n 0, 1) := dk_42 (dk_at dksX0_know_2 19 rfl rfl)
theorem dX0_know_66 : decode cX0_know 66 = .ok (.dup, 1) := dk_89 (dk_at dksX0_know_2 20 rfl rfl)
theorem dX0_know_67 : decode cX0_know 67 = .ok (.getfield 120, 3) := dk_180 0 120 (dk_at dksX0_know_2 21 rfl rfl)
theorem dX0_know_70 : decode cX0_know 70 = .ok (.iconst 1, 1) := dk_4 (dk_at dksX0_know_3 0 rfl rfl)
theorem dX0_know_71 : decode cX0_know 71 = .ok (.iadd, 1) := dk_96 (dk_at dksX0_know_3 1 rfl rfl)
theorem dX0_know_72 : decode cX0_know 72 = .ok (.putfield 120, 3) := dk_181 0 120 (dk_at dksX0_know_3 2 rfl rfl)
theorem dX0_know_75 : decode cX0_know 75 = .ok (.return_, 1) := dk_177 (dk_at dksX0_know_3 5 rfl rfl)
abbrev cX0_lotOf : ByteArray := prog_1_method_2_code
def yX0_lotOf : MethodName := ⟨RX0, "lotOf", "(I)V"⟩
def dkwX0_lotOf_5 : List UInt8 := [132, 3, 1, 167, 255, 141, 177]
abbrev dktX0_lotOf_5 : List UInt8 := dkwX0_lotOf_5 ++ []
def dkwX0_lotOf_4 : List UInt8 := [54, 6, 132, 7, 1, 167, 255, 218, 42, 180, 0, 19, 29, 21, 7, 79, 28, 4, 21, 7, 120, 128, 61]
abbrev dktX0_lotOf_4 : List UInt8 := dkwX0_lotOf_4 ++ dktX0_lotOf_5
def dkwX0_lotOf_3 : List UInt8 := [21, 6, 158, 0, 29, 21, 6, 28, 21, 7, 122, 4, 126, 4, 160, 0, 7, 3, 167, 0, 4, 4, 100]
abbrev dktX0_lotOf_3 : List UInt8 := dkwX0_lotOf_3 ++ dktX0_lotOf_4
def dkwX0_lotOf_2 : List UInt8 := [180, 0, 1, 180, 0, 7, 29, 100, 112, 54, 6, 3, 54, 7, 28, 21, 7, 122, 4, 126, 4, 159, 0, 8]
abbrev dktX0_lotOf_2 : List UInt8 := dkwX0_lotOf_2 ++ dktX0_lotOf_3
def dkwX0_lotOf_1 : List UInt8 := [29, 133, 105, 97, 10, 97, 55, 4, 22, 4, 22, 4, 105, 20, 0, 17, 113, 136, 16, 16, 108, 42]
abbrev dktX0_lotOf_1 : List UInt8 := dkwX0_lotOf_1 ++ dktX0_lotOf_2
def dkwX0_lotOf_0 : List UInt8 := [3, 61, 3, 62, 29, 42, 180, 0, 1, 180, 0, 7, 162, 0, 110, 20, 0, 13, 27, 133, 105, 20, 0, 15]
abbrev dktX0_lotOf_0 : List UInt8 := dkwX0_lotOf_0 ++ dktX0_lotOf_1
theorem dksX0_lotOf_0 : cX0_lotOf.data.toList.drop 0 = dktX0_lotOf_0 := by decide +kernel
theorem dksX0_lotOf_1 : cX0_lotOf.data.toList.drop 24 = dktX0_lotOf_1 := dk_seg dksX0_lotOf_0 24 rfl rfl
theorem dksX0_lotOf_2 : cX0_lotOf.data.toList.drop 46 = dktX0_lotOf_2 := dk_seg dksX0_lotOf_1 22 rfl rfl
theorem dksX0_lotOf_3 : cX0_lotOf.data.toList.drop 70 = dktX0_lotOf_3 := dk_seg dksX0_lotOf_2 24 rfl rfl
theorem dksX0_lotOf_4 : cX0_lotOf.data.toList.drop 93 = dktX0_lotOf_4 := dk_seg dksX0_lotOf_3 23 rfl rfl
theorem dksX0_lotOf_5 : cX0_lotOf.data.toList.drop 116 = dktX0_lotOf_5 := dk_seg dksX0_lotOf_4 23 rfl rfl
theorem dX0_lotOf_0 : decode cX0_lotOf 0 = .ok (.iconst 0, 1) := dk_3 (dk_at dksX0_lotOf_0 0 rfl rfl)
theorem dX0_lotOf_1 : decode cX0_lotOf 1 = .ok (.istore_n 2, 1) := dk_61 (dk_at dksX0_lotOf_0 1 rfl rfl)
theorem dX0_lotOf_2 : decode cX0_lotOf 2 = .ok (.iconst 0, 1) := dk_3 (dk_at dksX0_lotOf_0 2 rfl rfl)
theorem dX0_lotOf_3 : decode cX0_lotOf 3 = .ok (.istore_n 3, 1) := dk_62 (dk_at dksX0_lotOf_0 3 rfl rfl)
theorem dX0_lotOf_4 : decode cX0_lotOf 4 = .ok (.iload_n 3, 1) := dk_29 (dk_at dksX0_lotOf_0 4 rfl rfl)
theorem dX0_lotOf_5 : decode cX0_lotOf 5 = .ok (.aload_n 0, 1) := dk_42 (dk_at dksX0_lotOf_0 5 rfl rfl)
theorem dX0_lotOf_6 : decode cX0_lotOf 6 = .ok (.getfield 1, 3) := dk_180 0 1 (dk_at dksX0_lotOf_0 6 rfl rfl)
theorem dX0_lotOf_9 : decode cX0_lotOf 9 = .ok (.getfield 7, 3) := dk_180 0 7 (dk_at dksX0_lotOf_0 9 rfl rfl)
theorem dX0_lotOf_12 : decode cX0_lotOf 12 = .ok (.if_icmp .ge 110, 3) := dk_162 0 110 (dk_at dksX0_lotOf_0 12 rfl rfl)
theorem dX0_lotOf_15 : decode cX0_lotOf 15 = .ok (.ldc2_w 13, 3) := dk_20 0 13 (dk_at dksX0_lotOf_0 15 rfl rfl)
theorem dX0_lotOf_18 : decode cX0_lotOf 18 = .ok (.iload_n 1, 1) := dk_27 (dk_at dksX0_lotOf_0 18 rfl rfl)
theorem dX0_lotOf_19 : decode cX0_lotOf 19 = .ok (.i2l, 1) := dk_133 (dk_at dksX0_lotOf_0 19 rfl rfl)
theorem dX0_lotOf_20 : decode cX0_lotOf 20 = .ok (.lmul, 1) := dk_105 (dk_at dksX0_lotOf_0 20 rfl rfl)
theorem dX0_lotOf_21 : decode cX0_lotOf 21 = .ok (.ldc2_w 15, 3) := dk_20 0 15 (dk_at dksX0_lotOf_0 21 rfl rfl)
theorem dX0_lotOf_24 : decode cX0_lotOf 24 = .ok (.iload_n 3, 1) := dk_29 (dk_at dksX0_lotOf_1 0 rfl rfl)
theorem dX0_lotOf_25 : decode cX0_lotOf 25 = .ok (.i2l, 1) := dk_133 (dk_at dksX0_lotOf_1 1 rfl rfl)
theorem dX0_lotOf_26 : decode cX0_lotOf 26 = .ok (.lmul, 1) := dk_105 (dk_at dksX0_lotOf_1 2 rfl rfl)
theorem dX0_lotOf_27 : decode cX0_lotOf 27 = .ok (.ladd, 1) := dk_97 (dk_at dksX0_lotOf_1 3 rfl rfl)
theorem dX0_lotOf_28 : decode cX0_lotOf 28 = .ok (.lconst 1, 1) := dk_10 (dk_at dksX0_lotOf_1 4 rfl rfl)
theorem dX0_lotOf_29 : decode cX0_lotOf 29 = .ok (.ladd, 1) := dk_97 (dk_at dksX0_lotOf_1 5 rfl rfl)
theorem dX0_lotOf_30 : decode cX0_lotOf 30 = .ok (.lstore 4, 2) := dk_55 4 (dk_at dksX0_lotOf_1 6 rfl rfl)
theorem dX0_lotOf_32 : decode cX0_lotOf 32 = .ok (.lload 4, 2) := dk_22 4 (dk_at dksX0_lotOf_1 8 rfl rfl)
theorem dX0_lotOf_34 : decode cX0_lotOf 34 = .ok (.lload 4, 2) := dk_22 4 (dk_at dksX0_lotOf_1 10 rfl rfl)
theorem dX0_lotOf_36 : decode cX0_lotOf 36 = .ok (.lmul, 1) := dk_105 (dk_at dksX0_lotOf_1 12 rfl rfl)
theorem dX0_lotOf_37 : decode cX0_lotOf 37 = .ok (.ldc2_w 17, 3) := dk_20 0 17 (dk_at dksX0_lotOf_1 13 rfl rfl)
theorem dX0_lotOf_40 : decode cX0_lotOf 40 = .ok (.lrem, 1) := dk_113 (dk_at dksX0_lotOf_1 16 rfl rfl)
theorem dX0_lotOf_41 : decode cX0_lotOf 41 = .ok (.l2i, 1) := dk_136 (dk_at dksX0_lotOf_1 17 rfl rfl)
theorem dX0_lotOf_42 : decode cX0_lotOf 42 = .ok (.bipush 16, 2) := dk_16 16 (dk_at dksX0_lotOf_1 18 rfl rfl)
theorem dX0_lotOf_44 : decode cX0_lotOf 44 = .ok (.idiv, 1) := dk_108 (dk_at dksX0_lotOf_1 20 rfl rfl)
theorem dX0_lotOf_45 : decode cX0_lotOf 45 = .ok (.aload_n 0, 1) := dk_42 (dk_at dksX0_lotOf_1 21 rfl rfl)
theorem dX0_lotOf_46 : decode cX0_lotOf 46 = .ok (.getfield 1, 3) := dk_180 0 1 (dk_at dksX0_lotOf_2 0 rfl rfl)
theorem dX0_lotOf_49 : decode cX0_lotOf 49 = .ok (.getfield 7, 3) := dk_180 0 7 (dk_at dksX0_lotOf_2 3 rfl rfl)
theorem dX0_lotOf_52 : decode cX0_lotOf 52 = .ok (.iload_n 3, 1) := dk_29 (dk_at dksX0_lotOf_2 6 rfl rfl)
theorem dX0_lotOf_53 : decode cX0_lotOf 53 = .ok (.isub, 1) := dk_100 (dk_at dksX0_lotOf_2 7 rfl rfl)
theorem dX0_lotOf_54 : decode cX0_lotOf 54 = .ok (.irem, 1) := dk_112 (dk_at dksX0_lotOf_2 8 rfl rfl)
theorem dX0_lotOf_55 : decode cX0_lotOf 55 = .ok (.istore 6, 2) := dk_54 6 (dk_at dksX0_lotOf_2 9 rfl rfl)
theorem dX0_lotOf_57 : decode cX0_lotOf 57 = .ok (.iconst 0, 1) := dk_3 (dk_at dksX0_lotOf_2 11 rfl rfl)
theorem dX0_lotOf_58 : decode cX0_lotOf 58 = .ok (.istore 7, 2) := dk_54 7 (dk_at dksX0_lotOf_2 12 rfl rfl)
theorem dX0_lotOf_60 : decode cX0_lotOf 60 = .ok (.iload_n 2, 1) := dk_28 (dk_at dksX0_lotOf_2 14 rfl rfl)
theorem dX0_lotOf_61 : decode cX0_lotOf 61 = .ok (.iload 7, 2) := dk_21 7 (dk_at dksX0_lotOf_2 15 rfl rfl)
theorem dX0_lotOf_63 : decode cX0_lotOf 63 = .ok (.ishr, 1) := dk_122 (dk_at dksX0_lotOf_2 17 rfl rfl)
theorem dX0_lotOf_64 : decode cX0_lotOf 64 = .ok (.iconst 1, 1) := dk_4 (dk_at dksX0_lotOf_2 18 rfl rfl)
theorem dX0_lotOf_65 : decode cX0_lotOf 65 = .ok (.iand, 1) := dk_126 (dk_at dksX0_lotOf_2 19 rfl rfl)
theorem dX0_lotOf_66 : decode cX0_lotOf 66 = .ok (.iconst 1, 1) := dk_4 (dk_at dksX0_lotOf_2 20 rfl rfl)
theorem dX0_lotOf_67 : decode cX0_lotOf 67 = .ok (.if_icmp .eq 8, 3) := dk_159 0 8 (dk_at dksX0_lotOf_2 21 rfl rfl)
theorem dX0_lotOf_70 : decode cX0_lotOf 70 = .ok (.iload 6, 2) := dk_21 6 (dk_at dksX0_lotOf_3 0 rfl rfl)
theorem dX0_lotOf_72 : decode cX0_lotOf 72 = .ok (.ifCond .le 29, 3) := dk_158 0 29 (dk_at dksX0_lotOf_3 2 rfl rfl)
theorem dX0_lotOf_75 : decode cX0_lotOf 75 = .ok (.iload 6, 2) := dk_21 6 (dk_at dksX0_lotOf_3 5 rfl rfl)
theorem dX0_lotOf_77 : decode cX0_lotOf 77 = .ok (.iload_n 2, 1) := dk_28 (dk_at dksX0_lotOf_3 7 rfl rfl)
theorem dX0_lotOf_78 : decode cX0_lotOf 78 = .ok (.iload 7, 2) := dk_21 7 (dk_at dksX0_lotOf_3 8 rfl rfl)
theorem dX0_lotOf_80 : decode cX0_lotOf 80 = .ok (.ishr, 1) := dk_122 (dk_at dksX0_lotOf_3 10 rfl rfl)
theorem dX0_lotOf_81 : decode cX0_lotOf 81 = .ok (.iconst 1, 1) := dk_4 (dk_at dksX0_lotOf_3 11 rfl rfl)
theorem dX0_lotOf_82 : decode cX0_lotOf 82 = .ok (.iand, 1) := dk_126 (dk_at dksX0_lotOf_3 12 rfl rfl)
theorem dX0_lotOf_83 : decode cX0_lotOf 83 = .ok (.iconst 1, 1) := dk_4 (dk_at dksX0_lotOf_3 13 rfl rfl)
theorem dX0_lotOf_84 : decode cX0_lotOf 84 = .ok (.if_icmp .ne 7, 3) := dk_160 0 7 (dk_at dksX0_lotOf_3 14 rfl rfl)
theorem dX0_lotOf_87 : decode cX0_lotOf 87 = .ok (.iconst 0, 1) := dk_3 (dk_at dksX0_lotOf_3 17 rfl rfl)
theorem dX0_lotOf_88 : decode cX0_lotOf 88 = .ok (.goto 4, 3) := dk_167 0 4 (dk_at dksX0_lotOf_3 18 rfl rfl)
theorem dX0_lotOf_91 : decode cX0_lotOf 91 = .ok (.iconst 1, 1) := dk_4 (dk_at dksX0_lotOf_3 21 rfl rfl)
theorem dX0_lotOf_92 : decode cX0_lotOf 92 = .ok (.isub, 1) := dk_100 (dk_at dksX0_lotOf_3 22 rfl rfl)
theorem dX0_lotOf_93 : decode cX0_lotOf 93 = .ok (.istore 6, 2) := dk_54 6 (dk_at dksX0_lotOf_4 0 rfl rfl)
theorem dX0_lotOf_95 : decode cX0_lotOf 95 = .ok (.iinc 7 1, 3) := dk_132 7 1 (dk_at dksX0_lotOf_4 2 rfl rfl)
theorem dX0_lotOf_98 : decode cX0_lotOf 98 = .ok (.goto (-38), 3) := dk_167 255 218 (dk_at dksX0_lotOf_4 5 rfl rfl)
theorem dX0_lotOf_101 : decode cX0_lotOf 101 = .ok (.aload_n 0, 1) := dk_42 (dk_at dksX0_lotOf_4 8 rfl rfl)
theorem dX0_lotOf_102 : decode cX0_lotOf 102 = .ok (.getfield 19, 3) := dk_180 0 19 (dk_at dksX0_lotOf_4 9 rfl rfl)
theorem dX0_lotOf_105 : decode cX0_lotOf 105 = .ok (.iload_n 3, 1) := dk_29 (dk_at dksX0_lotOf_4 12 rfl rfl)
theorem dX0_lotOf_106 : decode cX0_lotOf 106 = .ok (.iload 7, 2) := dk_21 7 (dk_at dksX0_lotOf_4 13 rfl rfl)
theorem dX0_lotOf_108 : decode cX0_lotOf 108 = .ok (.iastore, 1) := dk_79 (dk_at dksX0_lotOf_4 15 rfl rfl)
theorem dX0_lotOf_109 : decode cX0_lotOf 109 = .ok (.iload_n 2, 1) := dk_28 (dk_at dksX0_lotOf_4 16 rfl rfl)
theorem dX0_lotOf_110 : decode cX0_lotOf 110 = .ok (.iconst 1, 1) := dk_4 (dk_at dksX0_lotOf_4 17 rfl rfl)
theorem dX0_lotOf_111 : decode cX0_lotOf 111 = .ok (.iload 7, 2) := dk_21 7 (dk_at dksX0_lotOf_4 18 rfl rfl)
theorem dX0_lotOf_113 : decode cX0_lotOf 113 = .ok (.ishl, 1) := dk_120 (dk_at dksX0_lotOf_4 20 rfl rfl)
theorem dX0_lotOf_114 : decode cX0_lotOf 114 = .ok (.ior, 1) := dk_128 (dk_at dksX0_lotOf_4 21 rfl rfl)
theorem dX0_lotOf_115 : decode cX0_lotOf 115 = .ok (.istore_n 2, 1) := dk_61 (dk_at dksX0_lotOf_4 22 rfl rfl)
theorem dX0_lotOf_116 : decode cX0_lotOf 116 = .ok (.iinc 3 1, 3) := dk_132 3 1 (dk_at dksX0_lotOf_5 0 rfl rfl)
theorem dX0_lotOf_119 : decode cX0_lotOf 119 = .ok (.goto (-115), 3) := dk_167 255 141 (dk_at dksX0_lotOf_5 3 rfl rfl)
theorem dX0_lotOf_122 : decode cX0_lotOf 122 = .ok (.return_, 1) := dk_177 (dk_at dksX0_lotOf_5 6 rfl rfl)
abbrev cX0_trades : ByteArray := prog_1_method_18_code
def yX0_trades : MethodName := ⟨RX0, "trades", "(II)I"⟩
def dkwX0_trades_1 : List UInt8 := [182, 0, 204, 42, 180, 0, 38, 27, 28, 182, 0, 210, 172]
abbrev dktX0_trades_1 : List UInt8 := dkwX0_trades_1 ++ []
def dkwX0_trades_0 : List UInt8 := [42, 27, 182, 0, 141, 153, 0, 16, 42, 28, 182, 0, 141, 153, 0, 8, 27, 28, 160, 0, 5, 2, 172, 42]
abbrev dktX0_trades_0 : List UInt8 := dkwX0_trades_0 ++ dktX0_trades_1
theorem dksX0_trades_0 : cX0_trades.data.toList.drop 0 = dktX0_trades_0 := by decide +kernel
theorem dksX0_trades_1 : cX0_trades.data.toList.drop 24 = dktX0_trades_1 := dk_seg dksX0_trades_0 24 rfl rfl
theorem dX0_trades_0 : decode cX0_trades 0 = .ok (.aload_n 0, 1) := dk_42 (dk_at dksX0_trades_0 0 rfl rfl)
theorem dX0_trades_1 : decode cX0_trades 1 = .ok (.iload_n 1, 1) := dk_27 (dk_at dksX0_trades_0 1 rfl rfl)
theorem dX0_trades_2 : decode cX0_trades 2 = .ok (.invokevirtual 141, 3) := dk_182 0 141 (dk_at dksX0_trades_0 2 rfl rfl)
theorem dX0_trades_5 : decode cX0_trades 5 = .ok (.ifCond .eq 16, 3) := dk_153 0 16 (dk_at dksX0_trades_0 5 rfl rfl)
theorem dX0_trades_8 : decode cX0_trades 8 = .ok (.aload_n 0, 1) := dk_42 (dk_at dksX0_trades_0 8 rfl rfl)
theorem dX0_trades_9 : decode cX0_trades 9 = .ok (.iload_n 2, 1) := dk_28 (dk_at dksX0_trades_0 9 rfl rfl)
theorem dX0_trades_10 : decode cX0_trades 10 = .ok (.invokevirtual 141, 3) := dk_182 0 141 (dk_at dksX0_trades_0 10 rfl rfl)
theorem dX0_trades_13 : decode cX0_trades 13 = .ok (.ifCond .eq 8, 3) := dk_153 0 8 (dk_at dksX0_trades_0 13 rfl rfl)
theorem dX0_trades_16 : decode cX0_trades 16 = .ok (.iload_n 1, 1) := dk_27 (dk_at dksX0_trades_0 16 rfl rfl)
theorem dX0_trades_17 : decode cX0_trades 17 = .ok (.iload_n 2, 1) := dk_28 (dk_at dksX0_trades_0 17 rfl rfl)
theorem dX0_trades_18 : decode cX0_trades 18 = .ok (.if_icmp .ne 5, 3) := dk_160 0 5 (dk_at dksX0_trades_0 18 rfl rfl)
theorem dX0_trades_21 : decode cX0_trades 21 = .ok (.iconst (-1), 1) := dk_2 (dk_at dksX0_trades_0 21 rfl rfl)
theorem dX0_trades_22 : decode cX0_trades 22 = .ok (.ireturn, 1) := dk_172 (dk_at dksX0_trades_0 22 rfl rfl)
theorem dX0_trades_23 : decode cX0_trades 23 = .ok (.aload_n 0, 1) := dk_42 (dk_at dksX0_trades_0 23 rfl rfl)
theorem dX0_trades_24 : decode cX0_trades 24 = .ok (.invokevirtual 204, 3) := dk_182 0 204 (dk_at dksX0_trades_1 0 rfl rfl)
theorem dX0_trades_27 : decode cX0_trades 27 = .ok (.aload_n 0, 1) := dk_42 (dk_at dksX0_trades_1 3 rfl rfl)
theorem dX0_trades_28 : decode cX0_trades 28 = .ok (.getfield 38, 3) := dk_180 0 38 (dk_at dksX0_trades_1 4 rfl rfl)
theorem dX0_trades_31 : decode cX0_trades 31 = .ok (.iload_n 1, 1) := dk_27 (dk_at dksX0_trades_1 7 rfl rfl)
theorem dX0_trades_32 : decode cX0_trades 32 = .ok (.iload_n 2, 1) := dk_28 (dk_at dksX0_trades_1 8 rfl rfl)
theorem dX0_trades_33 : decode cX0_trades 33 = .ok (.invokevirtual 210, 3) := dk_182 0 210 (dk_at dksX0_trades_1 9 rfl rfl)
theorem dX0_trades_36 : decode cX0_trades 36 = .ok (.ireturn, 1) := dk_172 (dk_at dksX0_trades_1 12 rfl rfl)
abbrev cX0_widens : ByteArray := prog_1_method_19_code
def yX0_widens : MethodName := ⟨RX0, "widens", "(II)I"⟩
def dkwX0_widens_2 : List UInt8 := [42, 180, 0, 38, 180, 0, 135, 27, 46, 62, 42, 180, 0, 38, 180, 0, 135, 27, 28, 79, 29, 172]
abbrev dktX0_widens_2 : List UInt8 := dkwX0_widens_2 ++ []
def dkwX0_widens_1 : List UInt8 := [180, 0, 138, 42, 180, 0, 38, 180, 0, 145, 27, 46, 46, 28, 164, 0, 6, 16, 254, 172, 42, 182, 0, 204]
abbrev dktX0_widens_1 : List UInt8 := dkwX0_widens_1 ++ dktX0_widens_2
def dkwX0_widens_0 : List UInt8 := [42, 27, 182, 0, 141, 153, 0, 13, 28, 4, 16, 99, 184, 0, 101, 154, 0, 5, 2, 172, 42, 180, 0, 1]
abbrev dktX0_widens_0 : List UInt8 := dkwX0_widens_0 ++ dktX0_widens_1
theorem dksX0_widens_0 : cX0_widens.data.toList.drop 0 = dktX0_widens_0 := by decide +kernel
theorem dksX0_widens_1 : cX0_widens.data.toList.drop 24 = dktX0_widens_1 := dk_seg dksX0_widens_0 24 rfl rfl
theorem dksX0_widens_2 : cX0_widens.data.toList.drop 48 = dktX0_widens_2 := dk_seg dksX0_widens_1 24 rfl rfl
theorem dX0_widens_0 : decode cX0_widens 0 = .ok (.aload_n 0, 1) := dk_42 (dk_at dksX0_widens_0 0 rfl rfl)
theorem dX0_widens_1 : decode cX0_widens 1 = .ok (.iload_n 1, 1) := dk_27 (dk_at dksX0_widens_0 1 rfl rfl)
theorem dX0_widens_2 : decode cX0_widens 2 = .ok (.invokevirtual 141, 3) := dk_182 0 141 (dk_at dksX0_widens_0 2 rfl rfl)
theorem dX0_widens_5 : decode cX0_widens 5 = .ok (.ifCond .eq 13, 3) := dk_153 0 13 (dk_at dksX0_widens_0 5 rfl rfl)
theorem dX0_widens_8 : decode cX0_widens 8 = .ok (.iload_n 2, 1) := dk_28 (dk_at dksX0_widens_0 8 rfl rfl)
theorem dX0_widens_9 : decode cX0_widens 9 = .ok (.iconst 1, 1) := dk_4 (dk_at dksX0_widens_0 9 rfl rfl)
theorem dX0_widens_10 : decode cX0_widens 10 = .ok (.bipush 99, 2) := dk_16 99 (dk_at dksX0_widens_0 10 rfl rfl)
theorem dX0_widens_12 : decode cX0_widens 12 = .ok (.invokestatic 101, 3) := dk_184 0 101 (dk_at dksX0_widens_0 12 rfl rfl)
theorem dX0_widens_15 : decode cX0_widens 15 = .ok (.ifCond .ne 5, 3) := dk_154 0 5 (dk_at dksX0_widens_0 15 rfl rfl)
theorem dX0_widens_18 : decode cX0_widens 18 = .ok (.iconst (-1), 1) := dk_2 (dk_at dksX0_widens_0 18 rfl rfl)
theorem dX0_widens_19 : decode cX0_widens 19 = .ok (.ireturn, 1) := dk_172 (dk_at dksX0_widens_0 19 rfl rfl)
theorem dX0_widens_20 : decode cX0_widens 20 = .ok (.aload_n 0, 1) := dk_42 (dk_at dksX0_widens_0 20 rfl rfl)
theorem dX0_widens_21 : decode cX0_widens 21 = .ok (.getfield 1, 3) := dk_180 0 1 (dk_at dksX0_widens_0 21 rfl rfl)
theorem dX0_widens_24 : decode cX0_widens 24 = .ok (.getfield 138, 3) := dk_180 0 138 (dk_at dksX0_widens_1 0 rfl rfl)
theorem dX0_widens_27 : decode cX0_widens 27 = .ok (.aload_n 0, 1) := dk_42 (dk_at dksX0_widens_1 3 rfl rfl)
theorem dX0_widens_28 : decode cX0_widens 28 = .ok (.getfield 38, 3) := dk_180 0 38 (dk_at dksX0_widens_1 4 rfl rfl)
theorem dX0_widens_31 : decode cX0_widens 31 = .ok (.getfield 145, 3) := dk_180 0 145 (dk_at dksX0_widens_1 7 rfl rfl)
theorem dX0_widens_34 : decode cX0_widens 34 = .ok (.iload_n 1, 1) := dk_27 (dk_at dksX0_widens_1 10 rfl rfl)
theorem dX0_widens_35 : decode cX0_widens 35 = .ok (.iaload, 1) := dk_46 (dk_at dksX0_widens_1 11 rfl rfl)
theorem dX0_widens_36 : decode cX0_widens 36 = .ok (.iaload, 1) := dk_46 (dk_at dksX0_widens_1 12 rfl rfl)
theorem dX0_widens_37 : decode cX0_widens 37 = .ok (.iload_n 2, 1) := dk_28 (dk_at dksX0_widens_1 13 rfl rfl)
theorem dX0_widens_38 : decode cX0_widens 38 = .ok (.if_icmp .le 6, 3) := dk_164 0 6 (dk_at dksX0_widens_1 14 rfl rfl)
theorem dX0_widens_41 : decode cX0_widens 41 = .ok (.bipush (-2), 2) := dk_16 254 (dk_at dksX0_widens_1 17 rfl rfl)
theorem dX0_widens_43 : decode cX0_widens 43 = .ok (.ireturn, 1) := dk_172 (dk_at dksX0_widens_1 19 rfl rfl)
theorem dX0_widens_44 : decode cX0_widens 44 = .ok (.aload_n 0, 1) := dk_42 (dk_at dksX0_widens_1 20 rfl rfl)
theorem dX0_widens_45 : decode cX0_widens 45 = .ok (.invokevirtual 204, 3) := dk_182 0 204 (dk_at dksX0_widens_1 21 rfl rfl)
theorem dX0_widens_48 : decode cX0_widens 48 = .ok (.aload_n 0, 1) := dk_42 (dk_at dksX0_widens_2 0 rfl rfl)
theorem dX0_widens_49 : decode cX0_widens 49 = .ok (.getfield 38, 3) := dk_180 0 38 (dk_at dksX0_widens_2 1 rfl rfl)
theorem dX0_widens_52 : decode cX0_widens 52 = .ok (.getfield 135, 3) := dk_180 0 135 (dk_at dksX0_widens_2 4 rfl rfl)
theorem dX0_widens_55 : decode cX0_widens 55 = .ok (.iload_n 1, 1) := dk_27 (dk_at dksX0_widens_2 7 rfl rfl)
theorem dX0_widens_56 : decode cX0_widens 56 = .ok (.iaload, 1) := dk_46 (dk_at dksX0_widens_2 8 rfl rfl)
theorem dX0_widens_57 : decode cX0_widens 57 = .ok (.istore_n 3, 1) := dk_62 (dk_at dksX0_widens_2 9 rfl rfl)
theorem dX0_widens_58 : decode cX0_widens 58 = .ok (.aload_n 0, 1) := dk_42 (dk_at dksX0_widens_2 10 rfl rfl)
theorem dX0_widens_59 : decode cX0_widens 59 = .ok (.getfield 38, 3) := dk_180 0 38 (dk_at dksX0_widens_2 11 rfl rfl)
theorem dX0_widens_62 : decode cX0_widens 62 = .ok (.getfield 135, 3) := dk_180 0 135 (dk_at dksX0_widens_2 14 rfl rfl)
theorem dX0_widens_65 : decode cX0_widens 65 = .ok (.iload_n 1, 1) := dk_27 (dk_at dksX0_widens_2 17 rfl rfl)
theorem dX0_widens_66 : decode cX0_widens 66 = .ok (.iload_n 2, 1) := dk_28 (dk_at dksX0_widens_2 18 rfl rfl)
theorem dX0_widens_67 : decode cX0_widens 67 = .ok (.iastore, 1) := dk_79 (dk_at dksX0_widens_2 19 rfl rfl)
theorem dX0_widens_68 : decode cX0_widens 68 = .ok (.iload_n 3, 1) := dk_29 (dk_at dksX0_widens_2 20 rfl rfl)
theorem dX0_widens_69 : decode cX0_widens 69 = .ok (.ireturn, 1) := dk_172 (dk_at dksX0_widens_2 21 rfl rfl)
abbrev cX0_undo : ByteArray := prog_1_method_20_code
def yX0_undo : MethodName := ⟨RX0, "undo", "()I"⟩
def dkwX0_undo_1 : List UInt8 := [42, 180, 0, 49, 42, 180, 0, 120, 50, 182, 0, 197, 42, 180, 0, 120, 172]
abbrev dktX0_undo_1 : List UInt8 := dkwX0_undo_1 ++ []
def dkwX0_undo_0 : List UInt8 := [42, 180, 0, 120, 154, 0, 6, 16, 254, 172, 42, 89, 180, 0, 120, 4, 100, 181, 0, 120, 42, 180, 0, 38]
abbrev dktX0_undo_0 : List UInt8 := dkwX0_undo_0 ++ dktX0_undo_1
theorem dksX0_undo_0 : cX0_undo.data.toList.drop 0 = dktX0_undo_0 := by decide +kernel
theorem dksX0_undo_1 : cX0_undo.data.toList.drop 24 = dktX0_undo_1 := dk_seg dksX0_undo_0 24 rfl rfl
theorem dX0_undo_0 : decode cX0_undo 0 = .ok (.aload_n 0, 1) := dk_42 (dk_at dksX0_undo_0 0 rfl rfl)
theorem dX0_undo_1 : decode cX0_undo 1 = .ok (.getfield 120, 3) := dk_180 0 120 (dk_at dksX0_undo_0 1 rfl rfl)
theorem dX0_undo_4 : decode cX0_undo 4 = .ok (.ifCond .ne 6, 3) := dk_154 0 6 (dk_at dksX0_undo_0 4 rfl rfl)
theorem dX0_undo_7 : decode cX0_undo 7 = .ok (.bipush (-2), 2) := dk_16 254 (dk_at dksX0_undo_0 7 rfl rfl)
theorem dX0_undo_9 : decode cX0_undo 9 = .ok (.ireturn, 1) := dk_172 (dk_at dksX0_undo_0 9 rfl rfl)
theorem dX0_undo_10 : decode cX0_undo 10 = .ok (.aload_n 0, 1) := dk_42 (dk_at dksX0_undo_0 10 rfl rfl)
theorem dX0_undo_11 : decode cX0_undo 11 = .ok (.dup, 1) := dk_89 (dk_at dksX0_undo_0 11 rfl rfl)
theorem dX0_undo_12 : decode cX0_undo 12 = .ok (.getfield 120, 3) := dk_180 0 120 (dk_at dksX0_undo_0 12 rfl rfl)
theorem dX0_undo_15 : decode cX0_undo 15 = .ok (.iconst 1, 1) := dk_4 (dk_at dksX0_undo_0 15 rfl rfl)
theorem dX0_undo_16 : decode cX0_undo 16 = .ok (.isub, 1) := dk_100 (dk_at dksX0_undo_0 16 rfl rfl)
theorem dX0_undo_17 : decode cX0_undo 17 = .ok (.putfield 120, 3) := dk_181 0 120 (dk_at dksX0_undo_0 17 rfl rfl)
theorem dX0_undo_20 : decode cX0_undo 20 = .ok (.aload_n 0, 1) := dk_42 (dk_at dksX0_undo_0 20 rfl rfl)
theorem dX0_undo_21 : decode cX0_undo 21 = .ok (.getfield 38, 3) := dk_180 0 38 (dk_at dksX0_undo_0 21 rfl rfl)
theorem dX0_undo_24 : decode cX0_undo 24 = .ok (.aload_n 0, 1) := dk_42 (dk_at dksX0_undo_1 0 rfl rfl)
theorem dX0_undo_25 : decode cX0_undo 25 = .ok (.getfield 49, 3) := dk_180 0 49 (dk_at dksX0_undo_1 1 rfl rfl)
theorem dX0_undo_28 : decode cX0_undo 28 = .ok (.aload_n 0, 1) := dk_42 (dk_at dksX0_undo_1 4 rfl rfl)
theorem dX0_undo_29 : decode cX0_undo 29 = .ok (.getfield 120, 3) := dk_180 0 120 (dk_at dksX0_undo_1 5 rfl rfl)
theorem dX0_undo_32 : decode cX0_undo 32 = .ok (.aaload, 1) := dk_50 (dk_at dksX0_undo_1 8 rfl rfl)
theorem dX0_undo_33 : decode cX0_undo 33 = .ok (.invokevirtual 197, 3) := dk_182 0 197 (dk_at dksX0_undo_1 9 rfl rfl)
theorem dX0_undo_36 : decode cX0_undo 36 = .ok (.aload_n 0, 1) := dk_42 (dk_at dksX0_undo_1 12 rfl rfl)
theorem dX0_undo_37 : decode cX0_undo 37 = .ok (.getfield 120, 3) := dk_180 0 120 (dk_at dksX0_undo_1 13 rfl rfl)
theorem dX0_undo_40 : decode cX0_undo 40 = .ok (.ireturn, 1) := dk_172 (dk_at dksX0_undo_1 16 rfl rfl)
abbrev cX0_inLots : ByteArray := prog_1_method_21_code
def yX0_inLots : MethodName := ⟨RX0, "inLots", "(III)I"⟩
def dkwX0_inLots_4 : List UInt8 := [167, 0, 12, 42, 180, 0, 42, 180, 0, 145, 29, 46, 172]
abbrev dktX0_inLots_4 : List UInt8 := dkwX0_inLots_4 ++ []
def dkwX0_inLots_3 : List UInt8 := [167, 255, 231, 29, 2, 160, 0, 21, 42, 180, 0, 42, 180, 0, 185, 42, 180, 0, 38, 180, 0, 185, 100]
abbrev dktX0_inLots_3 : List UInt8 := dkwX0_inLots_3 ++ dktX0_inLots_4
def dkwX0_inLots_2 : List UInt8 := [28, 162, 0, 25, 42, 180, 0, 42, 27, 21, 4, 96, 17, 39, 16, 112, 182, 0, 207, 87, 132, 4, 1]
abbrev dktX0_inLots_2 : List UInt8 := dkwX0_inLots_2 ++ dktX0_inLots_3
def dkwX0_inLots_1 : List UInt8 := [182, 0, 141, 154, 0, 5, 2, 172, 42, 180, 0, 42, 42, 180, 0, 38, 182, 0, 197, 3, 54, 4, 21, 4]
abbrev dktX0_inLots_1 : List UInt8 := dkwX0_inLots_1 ++ dktX0_inLots_2
def dkwX0_inLots_0 : List UInt8 := [27, 184, 0, 201, 153, 0, 26, 28, 3, 16, 20, 184, 0, 101, 153, 0, 16, 29, 2, 159, 0, 13, 42, 29]
abbrev dktX0_inLots_0 : List UInt8 := dkwX0_inLots_0 ++ dktX0_inLots_1
theorem dksX0_inLots_0 : cX0_inLots.data.toList.drop 0 = dktX0_inLots_0 := by decide +kernel
theorem dksX0_inLots_1 : cX0_inLots.data.toList.drop 24 = dktX0_inLots_1 := dk_seg dksX0_inLots_0 24 rfl rfl
theorem dksX0_inLots_2 : cX0_inLots.data.toList.drop 48 = dktX0_inLots_2 := dk_seg dksX0_inLots_1 24 rfl rfl
theorem dksX0_inLots_3 : cX0_inLots.data.toList.drop 71 = dktX0_inLots_3 := dk_seg dksX0_inLots_2 23 rfl rfl
theorem dksX0_inLots_4 : cX0_inLots.data.toList.drop 94 = dktX0_inLots_4 := dk_seg dksX0_inLots_3 23 rfl rfl
theorem dX0_inLots_0 : decode cX0_inLots 0 = .ok (.iload_n 1, 1) := dk_27 (dk_at dksX0_inLots_0 0 rfl rfl)
theorem dX0_inLots_1 : decode cX0_inLots 1 = .ok (.invokestatic 201, 3) := dk_184 0 201 (dk_at dksX0_inLots_0 1 rfl rfl)
theorem dX0_inLots_4 : decode cX0_inLots 4 = .ok (.ifCond .eq 26, 3) := dk_153 0 26 (dk_at dksX0_inLots_0 4 rfl rfl)
theorem dX0_inLots_7 : decode cX0_inLots 7 = .ok (.iload_n 2, 1) := dk_28 (dk_at dksX0_inLots_0 7 rfl rfl)
theorem dX0_inLots_8 : decode cX0_inLots 8 = .ok (.iconst 0, 1) := dk_3 (dk_at dksX0_inLots_0 8 rfl rfl)
theorem dX0_inLots_9 : decode cX0_inLots 9 = .ok (.bipush 20, 2) := dk_16 20 (dk_at dksX0_inLots_0 9 rfl rfl)
theorem dX0_inLots_11 : decode cX0_inLots 11 = .ok (.invokestatic 101, 3) := dk_184 0 101 (dk_at dksX0_inLots_0 11 rfl rfl)
theorem dX0_inLots_14 : decode cX0_inLots 14 = .ok (.ifCond .eq 16, 3) := dk_153 0 16 (dk_at dksX0_inLots_0 14 rfl rfl)
theorem dX0_inLots_17 : decode cX0_inLots 17 = .ok (.iload_n 3, 1) := dk_29 (dk_at dksX0_inLots_0 17 rfl rfl)
theorem dX0_inLots_18 : decode cX0_inLots 18 = .ok (.iconst (-1), 1) := dk_2 (dk_at dksX0_inLots_0 18 rfl rfl)
theorem dX0_inLots_19 : decode cX0_inLots 19 = .ok (.if_icmp .eq 13, 3) := dk_159 0 13 (dk_at dksX0_inLots_0 19 rfl rfl)
theorem dX0_inLots_22 : decode cX0_inLots 22 = .ok (.aload_n 0, 1) := dk_42 (dk_at dksX0_inLots_0 22 rfl rfl)
theorem dX0_inLots_23 : decode cX0_inLots 23 = .ok (.iload_n 3, 1) := dk_29 (dk_at dksX0_inLots_0 23 rfl rfl)
theorem dX0_inLots_24 : decode cX0_inLots 24 = .ok (.invokevirtual 141, 3) := dk_182 0 141 (dk_at dksX0_inLots_1 0 rfl rfl)
theorem dX0_inLots_27 : decode cX0_inLots 27 = .ok (.ifCond .ne 5, 3) := dk_154 0 5 (dk_at dksX0_inLots_1 3 rfl rfl)
theorem dX0_inLots_30 : decode cX0_inLots 30 = .ok (.iconst (-1), 1) := dk_2 (dk_at dksX0_inLots_1 6 rfl rfl)
theorem dX0_inLots_31 : decode cX0_inLots 31 = .ok (.ireturn, 1) := dk_172 (dk_at dksX0_inLots_1 7 rfl rfl)
theorem dX0_inLots_32 : decode cX0_inLots 32 = .ok (.aload_n 0, 1) := dk_42 (dk_at dksX0_inLots_1 8 rfl rfl)
theorem dX0_inLots_33 : decode cX0_inLots 33 = .ok (.getfield 42, 3) := dk_180 0 42 (dk_at dksX0_inLots_1 9 rfl rfl)
theorem dX0_inLots_36 : decode cX0_inLots 36 = .ok (.aload_n 0, 1) := dk_42 (dk_at dksX0_inLots_1 12 rfl rfl)
theorem dX0_inLots_37 : decode cX0_inLots 37 = .ok (.getfield 38, 3) := dk_180 0 38 (dk_at dksX0_inLots_1 13 rfl rfl)
theorem dX0_inLots_40 : decode cX0_inLots 40 = .ok (.invokevirtual 197, 3) := dk_182 0 197 (dk_at dksX0_inLots_1 16 rfl rfl)
theorem dX0_inLots_43 : decode cX0_inLots 43 = .ok (.iconst 0, 1) := dk_3 (dk_at dksX0_inLots_1 19 rfl rfl)
theorem dX0_inLots_44 : decode cX0_inLots 44 = .ok (.istore 4, 2) := dk_54 4 (dk_at dksX0_inLots_1 20 rfl rfl)
theorem dX0_inLots_46 : decode cX0_inLots 46 = .ok (.iload 4, 2) := dk_21 4 (dk_at dksX0_inLots_1 22 rfl rfl)
theorem dX0_inLots_48 : decode cX0_inLots 48 = .ok (.iload_n 2, 1) := dk_28 (dk_at dksX0_inLots_2 0 rfl rfl)
theorem dX0_inLots_49 : decode cX0_inLots 49 = .ok (.if_icmp .ge 25, 3) := dk_162 0 25 (dk_at dksX0_inLots_2 1 rfl rfl)
theorem dX0_inLots_52 : decode cX0_inLots 52 = .ok (.aload_n 0, 1) := dk_42 (dk_at dksX0_inLots_2 4 rfl rfl)
theorem dX0_inLots_53 : decode cX0_inLots 53 = .ok (.getfield 42, 3) := dk_180 0 42 (dk_at dksX0_inLots_2 5 rfl rfl)
theorem dX0_inLots_56 : decode cX0_inLots 56 = .ok (.iload_n 1, 1) := dk_27 (dk_at dksX0_inLots_2 8 rfl rfl)
theorem dX0_inLots_57 : decode cX0_inLots 57 = .ok (.iload 4, 2) := dk_21 4 (dk_at dksX0_inLots_2 9 rfl rfl)
theorem dX0_inLots_59 : decode cX0_inLots 59 = .ok (.iadd, 1) := dk_96 (dk_at dksX0_inLots_2 11 rfl rfl)
theorem dX0_inLots_60 : decode cX0_inLots 60 = .ok (.sipush 10000, 3) := dk_17 39 16 (dk_at dksX0_inLots_2 12 rfl rfl)
theorem dX0_inLots_63 : decode cX0_inLots 63 = .ok (.irem, 1) := dk_112 (dk_at dksX0_inLots_2 15 rfl rfl)
theorem dX0_inLots_64 : decode cX0_inLots 64 = .ok (.invokevirtual 207, 3) := dk_182 0 207 (dk_at dksX0_inLots_2 16 rfl rfl)
theorem dX0_inLots_67 : decode cX0_inLots 67 = .ok (.pop, 1) := dk_87 (dk_at dksX0_inLots_2 19 rfl rfl)
theorem dX0_inLots_68 : decode cX0_inLots 68 = .ok (.iinc 4 1, 3) := dk_132 4 1 (dk_at dksX0_inLots_2 20 rfl rfl)
theorem dX0_inLots_71 : decode cX0_inLots 71 = .ok (.goto (-25), 3) := dk_167 255 231 (dk_at dksX0_inLots_3 0 rfl rfl)
theorem dX0_inLots_74 : decode cX0_inLots 74 = .ok (.iload_n 3, 1) := dk_29 (dk_at dksX0_inLots_3 3 rfl rfl)
theorem dX0_inLots_75 : decode cX0_inLots 75 = .ok (.iconst (-1), 1) := dk_2 (dk_at dksX0_inLots_3 4 rfl rfl)
theorem dX0_inLots_76 : decode cX0_inLots 76 = .ok (.if_icmp .ne 21, 3) := dk_160 0 21 (dk_at dksX0_inLots_3 5 rfl rfl)
theorem dX0_inLots_79 : decode cX0_inLots 79 = .ok (.aload_n 0, 1) := dk_42 (dk_at dksX0_inLots_3 8 rfl rfl)
theorem dX0_inLots_80 : decode cX0_inLots 80 = .ok (.getfield 42, 3) := dk_180 0 42 (dk_at dksX0_inLots_3 9 rfl rfl)
theorem dX0_inLots_83 : decode cX0_inLots 83 = .ok (.getfield 185, 3) := dk_180 0 185 (dk_at dksX0_inLots_3 12 rfl rfl)
theorem dX0_inLots_86 : decode cX0_inLots 86 = .ok (.aload_n 0, 1) := dk_42 (dk_at dksX0_inLots_3 15 rfl rfl)
theorem dX0_inLots_87 : decode cX0_inLots 87 = .ok (.getfield 38, 3) := dk_180 0 38 (dk_at dksX0_inLots_3 16 rfl rfl)
theorem dX0_inLots_90 : decode cX0_inLots 90 = .ok (.getfield 185, 3) := dk_180 0 185 (dk_at dksX0_inLots_3 19 rfl rfl)
theorem dX0_inLots_93 : decode cX0_inLots 93 = .ok (.isub, 1) := dk_100 (dk_at dksX0_inLots_3 22 rfl rfl)
theorem dX0_inLots_94 : decode cX0_inLots 94 = .ok (.goto 12, 3) := dk_167 0 12 (dk_at dksX0_inLots_4 0 rfl rfl)
theorem dX0_inLots_97 : decode cX0_inLots 97 = .ok (.aload_n 0, 1) := dk_42 (dk_at dksX0_inLots_4 3 rfl rfl)
theorem dX0_inLots_98 : decode cX0_inLots 98 = .ok (.getfield 42, 3) := dk_180 0 42 (dk_at dksX0_inLots_4 4 rfl rfl)
theorem dX0_inLots_101 : decode cX0_inLots 101 = .ok (.getfield 145, 3) := dk_180 0 145 (dk_at dksX0_inLots_4 7 rfl rfl)
theorem dX0_inLots_104 : decode cX0_inLots 104 = .ok (.iload_n 3, 1) := dk_29 (dk_at dksX0_inLots_4 10 rfl rfl)
theorem dX0_inLots_105 : decode cX0_inLots 105 = .ok (.iaload, 1) := dk_46 (dk_at dksX0_inLots_4 11 rfl rfl)
theorem dX0_inLots_106 : decode cX0_inLots 106 = .ok (.ireturn, 1) := dk_172 (dk_at dksX0_inLots_4 12 rfl rfl)
abbrev cX0_cost : ByteArray := prog_1_method_22_code
def yX0_cost : MethodName := ⟨RX0, "cost", "(I)I"⟩
def dkwX0_cost_4 : List UInt8 := [132, 3, 1, 167, 255, 178, 28, 172]
abbrev dktX0_cost_4 : List UInt8 := dkwX0_cost_4 ++ []
def dkwX0_cost_3 : List UInt8 := [180, 0, 1, 180, 0, 138, 42, 180, 0, 38, 180, 0, 145, 42, 180, 0, 19, 29, 46, 46, 46, 104, 96, 61]
abbrev dktX0_cost_3 : List UInt8 := dkwX0_cost_3 ++ dktX0_cost_4
def dkwX0_cost_2 : List UInt8 := [21, 4, 18, 166, 162, 0, 9, 28, 16, 247, 160, 0, 8, 16, 247, 167, 0, 30, 28, 21, 4, 42]
abbrev dktX0_cost_2 : List UInt8 := dkwX0_cost_2 ++ dktX0_cost_3
def dkwX0_cost_1 : List UInt8 := [180, 0, 7, 162, 0, 73, 42, 180, 0, 1, 180, 0, 162, 42, 180, 0, 19, 29, 46, 50, 29, 46, 54, 4]
abbrev dktX0_cost_1 : List UInt8 := dkwX0_cost_1 ++ dktX0_cost_2
def dkwX0_cost_0 : List UInt8 := [27, 184, 0, 201, 154, 0, 5, 2, 172, 42, 27, 182, 0, 214, 3, 61, 3, 62, 29, 42, 180, 0, 1]
abbrev dktX0_cost_0 : List UInt8 := dkwX0_cost_0 ++ dktX0_cost_1
theorem dksX0_cost_0 : cX0_cost.data.toList.drop 0 = dktX0_cost_0 := by decide +kernel
theorem dksX0_cost_1 : cX0_cost.data.toList.drop 23 = dktX0_cost_1 := dk_seg dksX0_cost_0 23 rfl rfl
theorem dksX0_cost_2 : cX0_cost.data.toList.drop 47 = dktX0_cost_2 := dk_seg dksX0_cost_1 24 rfl rfl
theorem dksX0_cost_3 : cX0_cost.data.toList.drop 69 = dktX0_cost_3 := dk_seg dksX0_cost_2 22 rfl rfl
theorem dksX0_cost_4 : cX0_cost.data.toList.drop 93 = dktX0_cost_4 := dk_seg dksX0_cost_3 24 rfl rfl
theorem dX0_cost_0 : decode cX0_cost 0 = .ok (.iload_n 1, 1) := dk_27 (dk_at dksX0_cost_0 0 rfl rfl)
theorem dX0_cost_1 : decode cX0_cost 1 = .ok (.invokestatic 201, 3) := dk_184 0 201 (dk_at dksX0_cost_0 1 rfl rfl)
theorem dX0_cost_4 : decode cX0_cost 4 = .ok (.ifCond .ne 5, 3) := dk_154 0 5 (dk_at dksX0_cost_0 4 rfl rfl)
theorem dX0_cost_7 : decode cX0_cost 7 = .ok (.iconst (-1), 1) := dk_2 (dk_at dksX0_cost_0 7 rfl rfl)
theorem dX0_cost_8 : decode cX0_cost 8 = .ok (.ireturn, 1) := dk_172 (dk_at dksX0_cost_0 8 rfl rfl)
theorem dX0_cost_9 : decode cX0_cost 9 = .ok (.aload_n 0, 1) := dk_42 (dk_at dksX0_cost_0 9 rfl rfl)
theorem dX0_cost_10 : decode cX0_cost 10 = .ok (.iload_n 1, 1) := dk_27 (dk_at dksX0_cost_0 10 rfl rfl)
theorem dX0_cost_11 : decode cX0_cost 11 = .ok (.invokevirtual 214, 3) := dk_182 0 214 (dk_at dksX0_cost_0 11 rfl rfl)
theorem dX0_cost_14 : decode cX0_cost 14 = .ok (.iconst 0, 1) := dk_3 (dk_at dksX0_cost_0 14 rfl rfl)
theorem dX0_cost_15 : decode cX0_cost 15 = .ok (.istore_n 2, 1) := dk_61 (dk_at dksX0_cost_0 15 rfl rfl)
theorem dX0_cost_16 : decode cX0_cost 16 = .ok (.iconst 0, 1) := dk_3 (dk_at dksX0_cost_0 16 rfl rfl)
theorem dX0_cost_17 : decode cX0_cost 17 = .ok (.istore_n 3, 1) := dk_62 (dk_at dksX0_cost_0 17 rfl rfl)
theorem dX0_cost_18 : decode cX0_cost 18 = .ok (.iload_n 3, 1) := dk_29 (dk_at dksX0_cost_0 18 rfl rfl)
theorem dX0_cost_19 : decode cX0_cost 19 = .ok (.aload_n 0, 1) := dk_42 (dk_at dksX0_cost_0 19 rfl rfl)
theorem dX0_cost_20 : decode cX0_cost 20 = .ok (.getfield 1, 3) := dk_180 0 1 (dk_at dksX0_cost_0 20 rfl rfl)
theorem dX0_cost_23 : decode cX0_cost 23 = .ok (.getfield 7, 3) := dk_180 0 7 (dk_at dksX0_cost_1 0 rfl rfl)
theorem dX0_cost_26 : decode cX0_cost 26 = .ok (.if_icmp .ge 73, 3) := dk_162 0 73 (dk_at dksX0_cost_1 3 rfl rfl)
theorem dX0_cost_29 : decode cX0_cost 29 = .ok (.aload_n 0, 1) := dk_42 (dk_at dksX0_cost_1 6 rfl rfl)
theorem dX0_cost_30 : decode cX0_cost 30 = .ok (.getfield 1, 3) := dk_180 0 1 (dk_at dksX0_cost_1 7 rfl rfl)
theorem dX0_cost_33 : decode cX0_cost 33 = .ok (.getfield 162, 3) := dk_180 0 162 (dk_at dksX0_cost_1 10 rfl rfl)
theorem dX0_cost_36 : decode cX0_cost 36 = .ok (.aload_n 0, 1) := dk_42 (dk_at dksX0_cost_1 13 rfl rfl)
theorem dX0_cost_37 : decode cX0_cost 37 = .ok (.getfield 19, 3) := dk_180 0 19 (dk_at dksX0_cost_1 14 rfl rfl)
theorem dX0_cost_40 : decode cX0_cost 40 = .ok (.iload_n 3, 1) := dk_29 (dk_at dksX0_cost_1 17 rfl rfl)
theorem dX0_cost_41 : decode cX0_cost 41 = .ok (.iaload, 1) := dk_46 (dk_at dksX0_cost_1 18 rfl rfl)
theorem dX0_cost_42 : decode cX0_cost 42 = .ok (.aaload, 1) := dk_50 (dk_at dksX0_cost_1 19 rfl rfl)
theorem dX0_cost_43 : decode cX0_cost 43 = .ok (.iload_n 3, 1) := dk_29 (dk_at dksX0_cost_1 20 rfl rfl)
theorem dX0_cost_44 : decode cX0_cost 44 = .ok (.iaload, 1) := dk_46 (dk_at dksX0_cost_1 21 rfl rfl)
theorem dX0_cost_45 : decode cX0_cost 45 = .ok (.istore 4, 2) := dk_54 4 (dk_at dksX0_cost_1 22 rfl rfl)
theorem dX0_cost_47 : decode cX0_cost 47 = .ok (.iload 4, 2) := dk_21 4 (dk_at dksX0_cost_2 0 rfl rfl)
theorem dX0_cost_49 : decode cX0_cost 49 = .ok (.ldc 166, 2) := dk_18 166 (dk_at dksX0_cost_2 2 rfl rfl)
theorem dX0_cost_51 : decode cX0_cost 51 = .ok (.if_icmp .ge 9, 3) := dk_162 0 9 (dk_at dksX0_cost_2 4 rfl rfl)
theorem dX0_cost_54 : decode cX0_cost 54 = .ok (.iload_n 2, 1) := dk_28 (dk_at dksX0_cost_2 7 rfl rfl)
theorem dX0_cost_55 : decode cX0_cost 55 = .ok (.bipush (-9), 2) := dk_16 247 (dk_at dksX0_cost_2 8 rfl rfl)
theorem dX0_cost_57 : decode cX0_cost 57 = .ok (.if_icmp .ne 8, 3) := dk_160 0 8 (dk_at dksX0_cost_2 10 rfl rfl)
theorem dX0_cost_60 : decode cX0_cost 60 = .ok (.bipush (-9), 2) := dk_16 247 (dk_at dksX0_cost_2 13 rfl rfl)
theorem dX0_cost_62 : decode cX0_cost 62 = .ok (.goto 30, 3) := dk_167 0 30 (dk_at dksX0_cost_2 15 rfl rfl)
theorem dX0_cost_65 : decode cX0_cost 65 = .ok (.iload_n 2, 1) := dk_28 (dk_at dksX0_cost_2 18 rfl rfl)
theorem dX0_cost_66 : decode cX0_cost 66 = .ok (.iload 4, 2) := dk_21 4 (dk_at dksX0_cost_2 19 rfl rfl)
theorem dX0_cost_68 : decode cX0_cost 68 = .ok (.aload_n 0, 1) := dk_42 (dk_at dksX0_cost_2 21 rfl rfl)
theorem dX0_cost_69 : decode cX0_cost 69 = .ok (.getfield 1, 3) := dk_180 0 1 (dk_at dksX0_cost_3 0 rfl rfl)
theorem dX0_cost_72 : decode cX0_cost 72 = .ok (.getfield 138, 3) := dk_180 0 138 (dk_at dksX0_cost_3 3 rfl rfl)
theorem dX0_cost_75 : decode cX0_cost 75 = .ok (.aload_n 0, 1) := dk_42 (dk_at dksX0_cost_3 6 rfl rfl)
theorem dX0_cost_76 : decode cX0_cost 76 = .ok (.getfield 38, 3) := dk_180 0 38 (dk_at dksX0_cost_3 7 rfl rfl)
theorem dX0_cost_79 : decode cX0_cost 79 = .ok (.getfield 145, 3) := dk_180 0 145 (dk_at dksX0_cost_3 10 rfl rfl)
theorem dX0_cost_82 : decode cX0_cost 82 = .ok (.aload_n 0, 1) := dk_42 (dk_at dksX0_cost_3 13 rfl rfl)
theorem dX0_cost_83 : decode cX0_cost 83 = .ok (.getfield 19, 3) := dk_180 0 19 (dk_at dksX0_cost_3 14 rfl rfl)
theorem dX0_cost_86 : decode cX0_cost 86 = .ok (.iload_n 3, 1) := dk_29 (dk_at dksX0_cost_3 17 rfl rfl)
theorem dX0_cost_87 : decode cX0_cost 87 = .ok (.iaload, 1) := dk_46 (dk_at dksX0_cost_3 18 rfl rfl)
theorem dX0_cost_88 : decode cX0_cost 88 = .ok (.iaload, 1) := dk_46 (dk_at dksX0_cost_3 19 rfl rfl)
theorem dX0_cost_89 : decode cX0_cost 89 = .ok (.iaload, 1) := dk_46 (dk_at dksX0_cost_3 20 rfl rfl)
theorem dX0_cost_90 : decode cX0_cost 90 = .ok (.imul, 1) := dk_104 (dk_at dksX0_cost_3 21 rfl rfl)
theorem dX0_cost_91 : decode cX0_cost 91 = .ok (.iadd, 1) := dk_96 (dk_at dksX0_cost_3 22 rfl rfl)
theorem dX0_cost_92 : decode cX0_cost 92 = .ok (.istore_n 2, 1) := dk_61 (dk_at dksX0_cost_3 23 rfl rfl)
theorem dX0_cost_93 : decode cX0_cost 93 = .ok (.iinc 3 1, 3) := dk_132 3 1 (dk_at dksX0_cost_4 0 rfl rfl)
theorem dX0_cost_96 : decode cX0_cost 96 = .ok (.goto (-78), 3) := dk_167 255 178 (dk_at dksX0_cost_4 3 rfl rfl)
theorem dX0_cost_99 : decode cX0_cost 99 = .ok (.iload_n 2, 1) := dk_28 (dk_at dksX0_cost_4 6 rfl rfl)
theorem dX0_cost_100 : decode cX0_cost 100 = .ok (.ireturn, 1) := dk_172 (dk_at dksX0_cost_4 7 rfl rfl)
abbrev cX0_home : ByteArray := prog_1_method_23_code
def yX0_home : MethodName := ⟨RX0, "home", "(I)I"⟩
def dkwX0_home_5 : List UInt8 := [79, 132, 2, 1, 132, 4, 1, 167, 255, 163, 27, 154, 0, 7, 28, 167, 0, 4, 29, 172]
abbrev dktX0_home_5 : List UInt8 := dkwX0_home_5 ++ []
def dkwX0_home_4 : List UInt8 := [21, 5, 42, 180, 0, 42, 180, 0, 145, 21, 4, 46, 79, 42, 180, 0, 42, 180, 0, 145, 21, 4, 21, 4]
abbrev dktX0_home_4 : List UInt8 := dkwX0_home_4 ++ dktX0_home_5
def dkwX0_home_3 : List UInt8 := [154, 0, 14, 16, 10, 21, 4, 104, 21, 5, 96, 167, 0, 4, 29, 62, 42, 180, 0, 42, 180, 0, 145]
abbrev dktX0_home_3 : List UInt8 := dkwX0_home_3 ++ dktX0_home_4
def dkwX0_home_2 : List UInt8 := [180, 0, 145, 21, 4, 46, 21, 4, 159, 0, 66, 42, 180, 0, 42, 21, 4, 182, 0, 148, 54, 5, 28]
abbrev dktX0_home_2 : List UInt8 := dkwX0_home_2 ++ dktX0_home_3
def dkwX0_home_1 : List UInt8 := [16, 247, 62, 3, 54, 4, 21, 4, 42, 180, 0, 1, 180, 0, 7, 162, 0, 87, 42, 180, 0, 42]
abbrev dktX0_home_1 : List UInt8 := dkwX0_home_1 ++ dktX0_home_2
def dkwX0_home_0 : List UInt8 := [27, 3, 4, 184, 0, 101, 154, 0, 5, 2, 172, 42, 180, 0, 42, 42, 180, 0, 38, 182, 0, 197, 3, 61]
abbrev dktX0_home_0 : List UInt8 := dkwX0_home_0 ++ dktX0_home_1
theorem dksX0_home_0 : cX0_home.data.toList.drop 0 = dktX0_home_0 := by decide +kernel
theorem dksX0_home_1 : cX0_home.data.toList.drop 24 = dktX0_home_1 := dk_seg dksX0_home_0 24 rfl rfl
theorem dksX0_home_2 : cX0_home.data.toList.drop 46 = dktX0_home_2 := dk_seg dksX0_home_1 22 rfl rfl
theorem dksX0_home_3 : cX0_home.data.toList.drop 69 = dktX0_home_3 := dk_seg dksX0_home_2 23 rfl rfl
theorem dksX0_home_4 : cX0_home.data.toList.drop 92 = dktX0_home_4 := dk_seg dksX0_home_3 23 rfl rfl
theorem dksX0_home_5 : cX0_home.data.toList.drop 116 = dktX0_home_5 := dk_seg dksX0_home_4 24 rfl rfl
theorem dX0_home_0 : decode cX0_home 0 = .ok (.iload_n 1, 1) := dk_27 (dk_at dksX0_home_0 0 rfl rfl)
theorem dX0_home_1 : decode cX0_home 1 = .ok (.iconst 0, 1) := dk_3 (dk_at dksX0_home_0 1 rfl rfl)
theorem dX0_home_2 : decode cX0_home 2 = .ok (.iconst 1, 1) := dk_4 (dk_at dksX0_home_0 2 rfl rfl)
theorem dX0_home_3 : decode cX0_home 3 = .ok (.invokestatic 101, 3) := dk_184 0 101 (dk_at dksX0_home_0 3 rfl rfl)
theorem dX0_home_6 : decode cX0_home 6 = .ok (.ifCond .ne 5, 3) := dk_154 0 5 (dk_at dksX0_home_0 6 rfl rfl)
theorem dX0_home_9 : decode cX0_home 9 = .ok (.iconst (-1), 1) := dk_2 (dk_at dksX0_home_0 9 rfl rfl)
theorem dX0_home_10 : decode cX0_home 10 = .ok (.ireturn, 1) := dk_172 (dk_at dksX0_home_0 10 rfl rfl)
theorem dX0_home_11 : decode cX0_home 11 = .ok (.aload_n 0, 1) := dk_42 (dk_at dksX0_home_0 11 rfl rfl)
theorem dX0_home_12 : decode cX0_home 12 = .ok (.getfield 42, 3) := dk_180 0 42 (dk_at dksX0_home_0 12 rfl rfl)
theorem dX0_home_15 : decode cX0_home 15 = .ok (.aload_n 0, 1) := dk_42 (dk_at dksX0_home_0 15 rfl rfl)
theorem dX0_home_16 : decode cX0_home 16 = .ok (.getfield 38, 3) := dk_180 0 38 (dk_at dksX0_home_0 16 rfl rfl)
theorem dX0_home_19 : decode cX0_home 19 = .ok (.invokevirtual 197, 3) := dk_182 0 197 (dk_at dksX0_home_0 19 rfl rfl)
theorem dX0_home_22 : decode cX0_home 22 = .ok (.iconst 0, 1) := dk_3 (dk_at dksX0_home_0 22 rfl rfl)
theorem dX0_home_23 : decode cX0_home 23 = .ok (.istore_n 2, 1) := dk_61 (dk_at dksX0_home_0 23 rfl rfl)
theorem dX0_home_24 : decode cX0_home 24 = .ok (.bipush (-9), 2) := dk_16 247 (dk_at dksX0_home_1 0 rfl rfl)
theorem dX0_home_26 : decode cX0_home 26 = .ok (.istore_n 3, 1) := dk_62 (dk_at dksX0_home_1 2 rfl rfl)
theorem dX0_home_27 : decode cX0_home 27 = .ok (.iconst 0, 1) := dk_3 (dk_at dksX0_home_1 3 rfl rfl)
theorem dX0_home_28 : decode cX0_home 28 = .ok (.istore 4, 2) := dk_54 4 (dk_at dksX0_home_1 4 rfl rfl)
theorem dX0_home_30 : decode cX0_home 30 = .ok (.iload 4, 2) := dk_21 4 (dk_at dksX0_home_1 6 rfl rfl)
theorem dX0_home_32 : decode cX0_home 32 = .ok (.aload_n 0, 1) := dk_42 (dk_at dksX0_home_1 8 rfl rfl)
theorem dX0_home_33 : decode cX0_home 33 = .ok (.getfield 1, 3) := dk_180 0 1 (dk_at dksX0_home_1 9 rfl rfl)
theorem dX0_home_36 : decode cX0_home 36 = .ok (.getfield 7, 3) := dk_180 0 7 (dk_at dksX0_home_1 12 rfl rfl)
theorem dX0_home_39 : decode cX0_home 39 = .ok (.if_icmp .ge 87, 3) := dk_162 0 87 (dk_at dksX0_home_1 15 rfl rfl)
theorem dX0_home_42 : decode cX0_home 42 = .ok (.aload_n 0, 1) := dk_42 (dk_at dksX0_home_1 18 rfl rfl)
theorem dX0_home_43 : decode cX0_home 43 = .ok (.getfield 42, 3) := dk_180 0 42 (dk_at dksX0_home_1 19 rfl rfl)
theorem dX0_home_46 : decode cX0_home 46 = .ok (.getfield 145, 3) := dk_180 0 145 (dk_at dksX0_home_2 0 rfl rfl)
theorem dX0_home_49 : decode cX0_home 49 = .ok (.iload 4, 2) := dk_21 4 (dk_at dksX0_home_2 3 rfl rfl)
theorem dX0_home_51 : decode cX0_home 51 = .ok (.iaload, 1) := dk_46 (dk_at dksX0_home_2 5 rfl rfl)
theorem dX0_home_52 : decode cX0_home 52 = .ok (.iload 4, 2) := dk_21 4 (dk_at dksX0_home_2 6 rfl rfl)
theorem dX0_home_54 : decode cX0_home 54 = .ok (.if_icmp .eq 66, 3) := dk_159 0 66 (dk_at dksX0_home_2 8 rfl rfl)
theorem dX0_home_57 : decode cX0_home 57 = .ok (.aload_n 0, 1) := dk_42 (dk_at dksX0_home_2 11 rfl rfl)
theorem dX0_home_58 : decode cX0_home 58 = .ok (.getfield 42, 3) := dk_180 0 42 (dk_at dksX0_home_2 12 rfl rfl)
theorem dX0_home_61 : decode cX0_home 61 = .ok (.iload 4, 2) := dk_21 4 (dk_at dksX0_home_2 15 rfl rfl)
theorem dX0_home_63 : decode cX0_home 63 = .ok (.invokevirtual 148, 3) := dk_182 0 148 (dk_at dksX0_home_2 17 rfl rfl)
theorem dX0_home_66 : decode cX0_home 66 = .ok (.istore 5, 2) := dk_54 5 (dk_at dksX0_home_2 20 rfl rfl)
theorem dX0_home_68 : decode cX0_home 68 = .ok (.iload_n 2, 1) := dk_28 (dk_at dksX0_home_2 22 rfl rfl)
theorem dX0_home_69 : decode cX0_home 69 = .ok (.ifCond .ne 14, 3) := dk_154 0 14 (dk_at dksX0_home_3 0 rfl rfl)
theorem dX0_home_72 : decode cX0_home 72 = .ok (.bipush 10, 2) := dk_16 10 (dk_at dksX0_home_3 3 rfl rfl)
theorem dX0_home_74 : decode cX0_home 74 = .ok (.iload 4, 2) := dk_21 4 (dk_at dksX0_home_3 5 rfl rfl)
theorem dX0_home_76 : decode cX0_home 76 = .ok (.imul, 1) := dk_104 (dk_at dksX0_home_3 7 rfl rfl)
theorem dX0_home_77 : decode cX0_home 77 = .ok (.iload 5, 2) := dk_21 5 (dk_at dksX0_home_3 8 rfl rfl)
theorem dX0_home_79 : decode cX0_home 79 = .ok (.iadd, 1) := dk_96 (dk_at dksX0_home_3 10 rfl rfl)
theorem dX0_home_80 : decode cX0_home 80 = .ok (.goto 4, 3) := dk_167 0 4 (dk_at dksX0_home_3 11 rfl rfl)
theorem dX0_home_83 : decode cX0_home 83 = .ok (.iload_n 3, 1) := dk_29 (dk_at dksX0_home_3 14 rfl rfl)
theorem dX0_home_84 : decode cX0_home 84 = .ok (.istore_n 3, 1) := dk_62 (dk_at dksX0_home_3 15 rfl rfl)
theorem dX0_home_85 : decode cX0_home 85 = .ok (.aload_n 0, 1) := dk_42 (dk_at dksX0_home_3 16 rfl rfl)
theorem dX0_home_86 : decode cX0_home 86 = .ok (.getfield 42, 3) := dk_180 0 42 (dk_at dksX0_home_3 17 rfl rfl)
theorem dX0_home_89 : decode cX0_home 89 = .ok (.getfield 145, 3) := dk_180 0 145 (dk_at dksX0_home_3 20 rfl rfl)
theorem dX0_home_92 : decode cX0_home 92 = .ok (.iload 5, 2) := dk_21 5 (dk_at dksX0_home_4 0 rfl rfl)
theorem dX0_home_94 : decode cX0_home 94 = .ok (.aload_n 0, 1) := dk_42 (dk_at dksX0_home_4 2 rfl rfl)
theorem dX0_home_95 : decode cX0_home 95 = .ok (.getfield 42, 3) := dk_180 0 42 (dk_at dksX0_home_4 3 rfl rfl)
theorem dX0_home_98 : decode cX0_home 98 = .ok (.getfield 145, 3) := dk_180 0 145 (dk_at dksX0_home_4 6 rfl rfl)
theorem dX0_home_101 : decode cX0_home 101 = .ok (.iload 4, 2) := dk_21 4 (dk_at dksX0_home_4 9 rfl rfl)
theorem dX0_home_103 : decode cX0_home 103 = .ok (.iaload, 1) := dk_46 (dk_at dksX0_home_4 11 rfl rfl)
theorem dX0_home_104 : decode cX0_home 104 = .ok (.iastore, 1) := dk_79 (dk_at dksX0_home_4 12 rfl rfl)
theorem dX0_home_105 : decode cX0_home 105 = .ok (.aload_n 0, 1) := dk_42 (dk_at dksX0_home_4 13 rfl rfl)
theorem dX0_home_106 : decode cX0_home 106 = .ok (.getfield 42, 3) := dk_180 0 42 (dk_at dksX0_home_4 14 rfl rfl)
theorem dX0_home_109 : decode cX0_home 109 = .ok (.getfield 145, 3) := dk_180 0 145 (dk_at dksX0_home_4 17 rfl rfl)
theorem dX0_home_112 : decode cX0_home 112 = .ok (.iload 4, 2) := dk_21 4 (dk_at dksX0_home_4 20 rfl rfl)
theorem dX0_home_114 : decode cX0_home 114 = .ok (.iload 4, 2) := dk_21 4 (dk_at dksX0_home_4 22 rfl rfl)
theorem dX0_home_116 : decode cX0_home 116 = .ok (.iastore, 1) := dk_79 (dk_at dksX0_home_5 0 rfl rfl)
theorem dX0_home_117 : decode cX0_home 117 = .ok (.iinc 2 1, 3) := dk_132 2 1 (dk_at dksX0_home_5 1 rfl rfl)
theorem dX0_home_120 : decode cX0_home 120 = .ok (.iinc 4 1, 3) := dk_132 4 1 (dk_at dksX0_home_5 4 rfl rfl)
theorem dX0_home_123 : decode cX0_home 123 = .ok (.goto (-93), 3) := dk_167 255 163 (dk_at dksX0_home_5 7 rfl rfl)
theorem dX0_home_126 : decode cX0_home 126 = .ok (.iload_n 1, 1) := dk_27 (dk_at dksX0_home_5 10 rfl rfl)
theorem dX0_home_127 : decode cX0_home 127 = .ok (.ifCond .ne 7, 3) := dk_154 0 7 (dk_at dksX0_home_5 11 rfl rfl)
theorem dX0_home_130 : decode cX0_home 130 = .ok (.iload_n 2, 1) := dk_28 (dk_at dksX0_home_5 14 rfl rfl)
theorem dX0_home_131 : decode cX0_home 131 = .ok (.goto 4, 3) := dk_167 0 4 (dk_at dksX0_home_5 15 rfl rfl)
theorem dX0_home_134 : decode cX0_home 134 = .ok (.iload_n 3, 1) := dk_29 (dk_at dksX0_home_5 18 rfl rfl)
theorem dX0_home_135 : decode cX0_home 135 = .ok (.ireturn, 1) := dk_172 (dk_at dksX0_home_5 19 rfl rfl)
abbrev cX0_hang : ByteArray := prog_1_method_25_code
def yX0_hang : MethodName := ⟨RX0, "hang", "(I)I"⟩
def dkwX0_hang_2 : List UInt8 := [180, 0, 218, 167, 0, 9, 42, 180, 0, 67, 27, 46, 172]
abbrev dktX0_hang_2 : List UInt8 := dkwX0_hang_2 ++ []
def dkwX0_hang_1 : List UInt8 := [3, 182, 0, 221, 42, 180, 0, 218, 18, 166, 160, 0, 8, 16, 247, 167, 0, 21, 27, 2, 160, 0, 10, 42]
abbrev dktX0_hang_1 : List UInt8 := dkwX0_hang_1 ++ dktX0_hang_2
def dkwX0_hang_0 : List UInt8 := [27, 2, 159, 0, 13, 42, 27, 182, 0, 141, 154, 0, 5, 2, 172, 42, 18, 166, 181, 0, 218, 42, 3, 3]
abbrev dktX0_hang_0 : List UInt8 := dkwX0_hang_0 ++ dktX0_hang_1
theorem dksX0_hang_0 : cX0_hang.data.toList.drop 0 = dktX0_hang_0 := by decide +kernel
theorem dksX0_hang_1 : cX0_hang.data.toList.drop 24 = dktX0_hang_1 := dk_seg dksX0_hang_0 24 rfl rfl
theorem dksX0_hang_2 : cX0_hang.data.toList.drop 48 = dktX0_hang_2 := dk_seg dksX0_hang_1 24 rfl rfl
theorem dX0_hang_0 : decode cX0_hang 0 = .ok (.iload_n 1, 1) := dk_27 (dk_at dksX0_hang_0 0 rfl rfl)
theorem dX0_hang_1 : decode cX0_hang 1 = .ok (.iconst (-1), 1) := dk_2 (dk_at dksX0_hang_0 1 rfl rfl)
theorem dX0_hang_2 : decode cX0_hang 2 = .ok (.if_icmp .eq 13, 3) := dk_159 0 13 (dk_at dksX0_hang_0 2 rfl rfl)
theorem dX0_hang_5 : decode cX0_hang 5 = .ok (.aload_n 0, 1) := dk_42 (dk_at dksX0_hang_0 5 rfl rfl)
theorem dX0_hang_6 : decode cX0_hang 6 = .ok (.iload_n 1, 1) := dk_27 (dk_at dksX0_hang_0 6 rfl rfl)
theorem dX0_hang_7 : decode cX0_hang 7 = .ok (.invokevirtual 141, 3) := dk_182 0 141 (dk_at dksX0_hang_0 7 rfl rfl)
theorem dX0_hang_10 : decode cX0_hang 10 = .ok (.ifCond .ne 5, 3) := dk_154 0 5 (dk_at dksX0_hang_0 10 rfl rfl)
theorem dX0_hang_13 : decode cX0_hang 13 = .ok (.iconst (-1), 1) := dk_2 (dk_at dksX0_hang_0 13 rfl rfl)
theorem dX0_hang_14 : decode cX0_hang 14 = .ok (.ireturn, 1) := dk_172 (dk_at dksX0_hang_0 14 rfl rfl)
theorem dX0_hang_15 : decode cX0_hang 15 = .ok (.aload_n 0, 1) := dk_42 (dk_at dksX0_hang_0 15 rfl rfl)
theorem dX0_hang_16 : decode cX0_hang 16 = .ok (.ldc 166, 2) := dk_18 166 (dk_at dksX0_hang_0 16 rfl rfl)
theorem dX0_hang_18 : decode cX0_hang 18 = .ok (.putfield 218, 3) := dk_181 0 218 (dk_at dksX0_hang_0 18 rfl rfl)
theorem dX0_hang_21 : decode cX0_hang 21 = .ok (.aload_n 0, 1) := dk_42 (dk_at dksX0_hang_0 21 rfl rfl)
theorem dX0_hang_22 : decode cX0_hang 22 = .ok (.iconst 0, 1) := dk_3 (dk_at dksX0_hang_0 22 rfl rfl)
theorem dX0_hang_23 : decode cX0_hang 23 = .ok (.iconst 0, 1) := dk_3 (dk_at dksX0_hang_0 23 rfl rfl)
theorem dX0_hang_24 : decode cX0_hang 24 = .ok (.iconst 0, 1) := dk_3 (dk_at dksX0_hang_1 0 rfl rfl)
theorem dX0_hang_25 : decode cX0_hang 25 = .ok (.invokevirtual 221, 3) := dk_182 0 221 (dk_at dksX0_hang_1 1 rfl rfl)
theorem dX0_hang_28 : decode cX0_hang 28 = .ok (.aload_n 0, 1) := dk_42 (dk_at dksX0_hang_1 4 rfl rfl)
theorem dX0_hang_29 : decode cX0_hang 29 = .ok (.getfield 218, 3) := dk_180 0 218 (dk_at dksX0_hang_1 5 rfl rfl)
theorem dX0_hang_32 : decode cX0_hang 32 = .ok (.ldc 166, 2) := dk_18 166 (dk_at dksX0_hang_1 8 rfl rfl)
theorem dX0_hang_34 : decode cX0_hang 34 = .ok (.if_icmp .ne 8, 3) := dk_160 0 8 (dk_at dksX0_hang_1 10 rfl rfl)
theorem dX0_hang_37 : decode cX0_hang 37 = .ok (.bipush (-9), 2) := dk_16 247 (dk_at dksX0_hang_1 13 rfl rfl)
theorem dX0_hang_39 : decode cX0_hang 39 = .ok (.goto 21, 3) := dk_167 0 21 (dk_at dksX0_hang_1 15 rfl rfl)
theorem dX0_hang_42 : decode cX0_hang 42 = .ok (.iload_n 1, 1) := dk_27 (dk_at dksX0_hang_1 18 rfl rfl)
theorem dX0_hang_43 : decode cX0_hang 43 = .ok (.iconst (-1), 1) := dk_2 (dk_at dksX0_hang_1 19 rfl rfl)
theorem dX0_hang_44 : decode cX0_hang 44 = .ok (.if_icmp .ne 10, 3) := dk_160 0 10 (dk_at dksX0_hang_1 20 rfl rfl)
theorem dX0_hang_47 : decode cX0_hang 47 = .ok (.aload_n 0, 1) := dk_42 (dk_at dksX0_hang_1 23 rfl rfl)
theorem dX0_hang_48 : decode cX0_hang 48 = .ok (.getfield 218, 3) := dk_180 0 218 (dk_at dksX0_hang_2 0 rfl rfl)
theorem dX0_hang_51 : decode cX0_hang 51 = .ok (.goto 9, 3) := dk_167 0 9 (dk_at dksX0_hang_2 3 rfl rfl)
theorem dX0_hang_54 : decode cX0_hang 54 = .ok (.aload_n 0, 1) := dk_42 (dk_at dksX0_hang_2 6 rfl rfl)
theorem dX0_hang_55 : decode cX0_hang 55 = .ok (.getfield 67, 3) := dk_180 0 67 (dk_at dksX0_hang_2 7 rfl rfl)
theorem dX0_hang_58 : decode cX0_hang 58 = .ok (.iload_n 1, 1) := dk_27 (dk_at dksX0_hang_2 10 rfl rfl)
theorem dX0_hang_59 : decode cX0_hang 59 = .ok (.iaload, 1) := dk_46 (dk_at dksX0_hang_2 11 rfl rfl)
theorem dX0_hang_60 : decode cX0_hang 60 = .ok (.ireturn, 1) := dk_172 (dk_at dksX0_hang_2 12 rfl rfl)
abbrev cX0_hangFrom : ByteArray := prog_1_method_24_code
def yX0_hangFrom : MethodName := ⟨RX0, "hangFrom", "(III)V"⟩
def dkwX0_hangFrom_6 : List UInt8 := [180, 0, 138, 21, 4, 46, 104, 96, 182, 0, 221, 132, 4, 1, 167, 255, 146, 177]
abbrev dktX0_hangFrom_6 : List UInt8 := dkwX0_hangFrom_6 ++ []
def dkwX0_hangFrom_5 : List UInt8 := [180, 0, 64, 27, 21, 4, 79, 42, 27, 4, 96, 28, 4, 21, 4, 120, 128, 29, 21, 5, 42, 180, 0, 1]
abbrev dktX0_hangFrom_5 : List UInt8 := dkwX0_hangFrom_5 ++ dktX0_hangFrom_6
def dkwX0_hangFrom_4 : List UInt8 := [42, 180, 0, 38, 180, 0, 135, 27, 46, 42, 180, 0, 1, 180, 0, 138, 21, 4, 46, 161, 0, 39, 42]
abbrev dktX0_hangFrom_4 : List UInt8 := dkwX0_hangFrom_4 ++ dktX0_hangFrom_5
def dkwX0_hangFrom_3 : List UInt8 := [182, 0, 148, 50, 27, 46, 54, 5, 28, 21, 4, 122, 4, 126, 154, 0, 68, 21, 5, 18, 166, 162, 0, 61]
abbrev dktX0_hangFrom_3 : List UInt8 := dkwX0_hangFrom_3 ++ dktX0_hangFrom_4
def dkwX0_hangFrom_2 : List UInt8 := [180, 0, 1, 180, 0, 7, 162, 0, 104, 42, 180, 0, 1, 180, 0, 162, 42, 180, 0, 38, 21, 4]
abbrev dktX0_hangFrom_2 : List UInt8 := dkwX0_hangFrom_2 ++ dktX0_hangFrom_3
def dkwX0_hangFrom_1 : List UInt8 := [42, 180, 0, 64, 3, 42, 180, 0, 67, 3, 16, 6, 184, 0, 191, 177, 3, 54, 4, 21, 4, 42]
abbrev dktX0_hangFrom_1 : List UInt8 := dkwX0_hangFrom_1 ++ dktX0_hangFrom_2
def dkwX0_hangFrom_0 : List UInt8 := [27, 42, 180, 0, 1, 180, 0, 7, 160, 0, 32, 29, 42, 180, 0, 218, 162, 0, 23, 42, 29, 181, 0, 218]
abbrev dktX0_hangFrom_0 : List UInt8 := dkwX0_hangFrom_0 ++ dktX0_hangFrom_1
theorem dksX0_hangFrom_0 : cX0_hangFrom.data.toList.drop 0 = dktX0_hangFrom_0 := by decide +kernel
theorem dksX0_hangFrom_1 : cX0_hangFrom.data.toList.drop 24 = dktX0_hangFrom_1 := dk_seg dksX0_hangFrom_0 24 rfl rfl
theorem dksX0_hangFrom_2 : cX0_hangFrom.data.toList.drop 46 = dktX0_hangFrom_2 := dk_seg dksX0_hangFrom_1 22 rfl rfl
theorem dksX0_hangFrom_3 : cX0_hangFrom.data.toList.drop 68 = dktX0_hangFrom_3 := dk_seg dksX0_hangFrom_2 22 rfl rfl
theorem dksX0_hangFrom_4 : cX0_hangFrom.data.toList.drop 92 = dktX0_hangFrom_4 := dk_seg dksX0_hangFrom_3 24 rfl rfl
theorem dksX0_hangFrom_5 : cX0_hangFrom.data.toList.drop 115 = dktX0_hangFrom_5 := dk_seg dksX0_hangFrom_4 23 rfl rfl
theorem dksX0_hangFrom_6 : cX0_hangFrom.data.toList.drop 139 = dktX0_hangFrom_6 := dk_seg dksX0_hangFrom_5 24 rfl rfl
theorem dX0_hangFrom_0 : decode cX0_hangFrom 0 = .ok (.iload_n 1, 1) := dk_27 (dk_at dksX0_hangFrom_0 0 rfl rfl)
theorem dX0_hangFrom_1 : decode cX0_hangFrom 1 = .ok (.aload_n 0, 1) := dk_42 (dk_at dksX0_hangFrom_0 1 rfl rfl)
theorem dX0_hangFrom_2 : decode cX0_hangFrom 2 = .ok (.getfield 1, 3) := dk_180 0 1 (dk_at dksX0_hangFrom_0 2 rfl rfl)
theorem dX0_hangFrom_5 : decode cX0_hangFrom 5 = .ok (.getfield 7, 3) := dk_180 0 7 (dk_at dksX0_hangFrom_0 5 rfl rfl)
theorem dX0_hangFrom_8 : decode cX0_hangFrom 8 = .ok (.if_icmp .ne 32, 3) := dk_160 0 32 (dk_at dksX0_hangFrom_0 8 rfl rfl)
theorem dX0_hangFrom_11 : decode cX0_hangFrom 11 = .ok (.iload_n 3, 1) := dk_29 (dk_at dksX0_hangFrom_0 11 rfl rfl)
theorem dX0_hangFrom_12 : decode cX0_hangFrom 12 = .ok (.aload_n 0, 1) := dk_42 (dk_at dksX0_hangFrom_0 12 rfl rfl)
theorem dX0_hangFrom_13 : decode cX0_hangFrom 13 = .ok (.getfield 218, 3) := dk_180 0 218 (dk_at dksX0_hangFrom_0 13 rfl rfl)
theorem dX0_hangFrom_16 : decode cX0_hangFrom 16 = .ok (.if_icmp .ge 23, 3) := dk_162 0 23 (dk_at dksX0_hangFrom_0 16 rfl rfl)
theorem dX0_hangFrom_19 : decode cX0_hangFrom 19 = .ok (.aload_n 0, 1) := dk_42 (dk_at dksX0_hangFrom_0 19 rfl rfl)
theorem dX0_hangFrom_20 : decode cX0_hangFrom 20 = .ok (.iload_n 3, 1) := dk_29 (dk_at dksX0_hangFrom_0 20 rfl rfl)
theorem dX0_hangFrom_21 : decode cX0_hangFrom 21 = .ok (.putfield 218, 3) := dk_181 0 218 (dk_at dksX0_hangFrom_0 21 rfl rfl)
theorem dX0_hangFrom_24 : decode cX0_hangFrom 24 = .ok (.aload_n 0, 1) := dk_42 (dk_at dksX0_hangFrom_1 0 rfl rfl)
theorem dX0_hangFrom_25 : decode cX0_hangFrom 25 = .ok (.getfield 64, 3) := dk_180 0 64 (dk_at dksX0_hangFrom_1 1 rfl rfl)
theorem dX0_hangFrom_28 : decode cX0_hangFrom 28 = .ok (.iconst 0, 1) := dk_3 (dk_at dksX0_hangFrom_1 4 rfl rfl)
theorem dX0_hangFrom_29 : decode cX0_hangFrom 29 = .ok (.aload_n 0, 1) := dk_42 (dk_at dksX0_hangFrom_1 5 rfl rfl)
theorem dX0_hangFrom_30 : decode cX0_hangFrom 30 = .ok (.getfield 67, 3) := dk_180 0 67 (dk_at dksX0_hangFrom_1 6 rfl rfl)
theorem dX0_hangFrom_33 : decode cX0_hangFrom 33 = .ok (.iconst 0, 1) := dk_3 (dk_at dksX0_hangFrom_1 9 rfl rfl)
theorem dX0_hangFrom_34 : decode cX0_hangFrom 34 = .ok (.bipush 6, 2) := dk_16 6 (dk_at dksX0_hangFrom_1 10 rfl rfl)
theorem dX0_hangFrom_36 : decode cX0_hangFrom 36 = .ok (.invokestatic 191, 3) := dk_184 0 191 (dk_at dksX0_hangFrom_1 12 rfl rfl)
theorem dX0_hangFrom_39 : decode cX0_hangFrom 39 = .ok (.return_, 1) := dk_177 (dk_at dksX0_hangFrom_1 15 rfl rfl)
theorem dX0_hangFrom_40 : decode cX0_hangFrom 40 = .ok (.iconst 0, 1) := dk_3 (dk_at dksX0_hangFrom_1 16 rfl rfl)
theorem dX0_hangFrom_41 : decode cX0_hangFrom 41 = .ok (.istore 4, 2) := dk_54 4 (dk_at dksX0_hangFrom_1 17 rfl rfl)
theorem dX0_hangFrom_43 : decode cX0_hangFrom 43 = .ok (.iload 4, 2) := dk_21 4 (dk_at dksX0_hangFrom_1 19 rfl rfl)
theorem dX0_hangFrom_45 : decode cX0_hangFrom 45 = .ok (.aload_n 0, 1) := dk_42 (dk_at dksX0_hangFrom_1 21 rfl rfl)
theorem dX0_hangFrom_46 : decode cX0_hangFrom 46 = .ok (.getfield 1, 3) := dk_180 0 1 (dk_at dksX0_hangFrom_2 0 rfl rfl)
theorem dX0_hangFrom_49 : decode cX0_hangFrom 49 = .ok (.getfield 7, 3) := dk_180 0 7 (dk_at dksX0_hangFrom_2 3 rfl rfl)
theorem dX0_hangFrom_52 : decode cX0_hangFrom 52 = .ok (.if_icmp .ge 104, 3) := dk_162 0 104 (dk_at dksX0_hangFrom_2 6 rfl rfl)
theorem dX0_hangFrom_55 : decode cX0_hangFrom 55 = .ok (.aload_n 0, 1) := dk_42 (dk_at dksX0_hangFrom_2 9 rfl rfl)
theorem dX0_hangFrom_56 : decode cX0_hangFrom 56 = .ok (.getfield 1, 3) := dk_180 0 1 (dk_at dksX0_hangFrom_2 10 rfl rfl)
theorem dX0_hangFrom_59 : decode cX0_hangFrom 59 = .ok (.getfield 162, 3) := dk_180 0 162 (dk_at dksX0_hangFrom_2 13 rfl rfl)
theorem dX0_hangFrom_62 : decode cX0_hangFrom 62 = .ok (.aload_n 0, 1) := dk_42 (dk_at dksX0_hangFrom_2 16 rfl rfl)
theorem dX0_hangFrom_63 : decode cX0_hangFrom 63 = .ok (.getfield 38, 3) := dk_180 0 38 (dk_at dksX0_hangFrom_2 17 rfl rfl)
theorem dX0_hangFrom_66 : decode cX0_hangFrom 66 = .ok (.iload 4, 2) := dk_21 4 (dk_at dksX0_hangFrom_2 20 rfl rfl)
theorem dX0_hangFrom_68 : decode cX0_hangFrom 68 = .ok (.invokevirtual 148, 3) := dk_182 0 148 (dk_at dksX0_hangFrom_3 0 rfl rfl)
theorem dX0_hangFrom_71 : decode cX0_hangFrom 71 = .ok (.aaload, 1) := dk_50 (dk_at dksX0_hangFrom_3 3 rfl rfl)
theorem dX0_hangFrom_72 : decode cX0_hangFrom 72 = .ok (.iload_n 1, 1) := dk_27 (dk_at dksX0_hangFrom_3 4 rfl rfl)
theorem dX0_hangFrom_73 : decode cX0_hangFrom 73 = .ok (.iaload, 1) := dk_46 (dk_at dksX0_hangFrom_3 5 rfl rfl)
theorem dX0_hangFrom_74 : decode cX0_hangFrom 74 = .ok (.istore 5, 2) := dk_54 5 (dk_at dksX0_hangFrom_3 6 rfl rfl)
theorem dX0_hangFrom_76 : decode cX0_hangFrom 76 = .ok (.iload_n 2, 1) := dk_28 (dk_at dksX0_hangFrom_3 8 rfl rfl)
theorem dX0_hangFrom_77 : decode cX0_hangFrom 77 = .ok (.iload 4, 2) := dk_21 4 (dk_at dksX0_hangFrom_3 9 rfl rfl)
theorem dX0_hangFrom_79 : decode cX0_hangFrom 79 = .ok (.ishr, 1) := dk_122 (dk_at dksX0_hangFrom_3 11 rfl rfl)
theorem dX0_hangFrom_80 : decode cX0_hangFrom 80 = .ok (.iconst 1, 1) := dk_4 (dk_at dksX0_hangFrom_3 12 rfl rfl)
theorem dX0_hangFrom_81 : decode cX0_hangFrom 81 = .ok (.iand, 1) := dk_126 (dk_at dksX0_hangFrom_3 13 rfl rfl)
theorem dX0_hangFrom_82 : decode cX0_hangFrom 82 = .ok (.ifCond .ne 68, 3) := dk_154 0 68 (dk_at dksX0_hangFrom_3 14 rfl rfl)
theorem dX0_hangFrom_85 : decode cX0_hangFrom 85 = .ok (.iload 5, 2) := dk_21 5 (dk_at dksX0_hangFrom_3 17 rfl rfl)
theorem dX0_hangFrom_87 : decode cX0_hangFrom 87 = .ok (.ldc 166, 2) := dk_18 166 (dk_at dksX0_hangFrom_3 19 rfl rfl)
theorem dX0_hangFrom_89 : decode cX0_hangFrom 89 = .ok (.if_icmp .ge 61, 3) := dk_162 0 61 (dk_at dksX0_hangFrom_3 21 rfl rfl)
theorem dX0_hangFrom_92 : decode cX0_hangFrom 92 = .ok (.aload_n 0, 1) := dk_42 (dk_at dksX0_hangFrom_4 0 rfl rfl)
theorem dX0_hangFrom_93 : decode cX0_hangFrom 93 = .ok (.getfield 38, 3) := dk_180 0 38 (dk_at dksX0_hangFrom_4 1 rfl rfl)
theorem dX0_hangFrom_96 : decode cX0_hangFrom 96 = .ok (.getfield 135, 3) := dk_180 0 135 (dk_at dksX0_hangFrom_4 4 rfl rfl)
theorem dX0_hangFrom_99 : decode cX0_hangFrom 99 = .ok (.iload_n 1, 1) := dk_27 (dk_at dksX0_hangFrom_4 7 rfl rfl)
theorem dX0_hangFrom_100 : decode cX0_hangFrom 100 = .ok (.iaload, 1) := dk_46 (dk_at dksX0_hangFrom_4 8 rfl rfl)
theorem dX0_hangFrom_101 : decode cX0_hangFrom 101 = .ok (.aload_n 0, 1) := dk_42 (dk_at dksX0_hangFrom_4 9 rfl rfl)
theorem dX0_hangFrom_102 : decode cX0_hangFrom 102 = .ok (.getfield 1, 3) := dk_180 0 1 (dk_at dksX0_hangFrom_4 10 rfl rfl)
theorem dX0_hangFrom_105 : decode cX0_hangFrom 105 = .ok (.getfield 138, 3) := dk_180 0 138 (dk_at dksX0_hangFrom_4 13 rfl rfl)
theorem dX0_hangFrom_108 : decode cX0_hangFrom 108 = .ok (.iload 4, 2) := dk_21 4 (dk_at dksX0_hangFrom_4 16 rfl rfl)
theorem dX0_hangFrom_110 : decode cX0_hangFrom 110 = .ok (.iaload, 1) := dk_46 (dk_at dksX0_hangFrom_4 18 rfl rfl)
theorem dX0_hangFrom_111 : decode cX0_hangFrom 111 = .ok (.if_icmp .lt 39, 3) := dk_161 0 39 (dk_at dksX0_hangFrom_4 19 rfl rfl)
theorem dX0_hangFrom_114 : decode cX0_hangFrom 114 = .ok (.aload_n 0, 1) := dk_42 (dk_at dksX0_hangFrom_4 22 rfl rfl)
theorem dX0_hangFrom_115 : decode cX0_hangFrom 115 = .ok (.getfield 64, 3) := dk_180 0 64 (dk_at dksX0_hangFrom_5 0 rfl rfl)
theorem dX0_hangFrom_118 : decode cX0_hangFrom 118 = .ok (.iload_n 1, 1) := dk_27 (dk_at dksX0_hangFrom_5 3 rfl rfl)
theorem dX0_hangFrom_119 : decode cX0_hangFrom 119 = .ok (.iload 4, 2) := dk_21 4 (dk_at dksX0_hangFrom_5 4 rfl rfl)
theorem dX0_hangFrom_121 : decode cX0_hangFrom 121 = .ok (.iastore, 1) := dk_79 (dk_at dksX0_hangFrom_5 6 rfl rfl)
theorem dX0_hangFrom_122 : decode cX0_hangFrom 122 = .ok (.aload_n 0, 1) := dk_42 (dk_at dksX0_hangFrom_5 7 rfl rfl)
theorem dX0_hangFrom_123 : decode cX0_hangFrom 123 = .ok (.iload_n 1, 1) := dk_27 (dk_at dksX0_hangFrom_5 8 rfl rfl)
theorem dX0_hangFrom_124 : decode cX0_hangFrom 124 = .ok (.iconst 1, 1) := dk_4 (dk_at dksX0_hangFrom_5 9 rfl rfl)
theorem dX0_hangFrom_125 : decode cX0_hangFrom 125 = .ok (.iadd, 1) := dk_96 (dk_at dksX0_hangFrom_5 10 rfl rfl)
theorem dX0_hangFrom_126 : decode cX0_hangFrom 126 = .ok (.iload_n 2, 1) := dk_28 (dk_at dksX0_hangFrom_5 11 rfl rfl)
theorem dX0_hangFrom_127 : decode cX0_hangFrom 127 = .ok (.iconst 1, 1) := dk_4 (dk_at dksX0_hangFrom_5 12 rfl rfl)
theorem dX0_hangFrom_128 : decode cX0_hangFrom 128 = .ok (.iload 4, 2) := dk_21 4 (dk_at dksX0_hangFrom_5 13 rfl rfl)
theorem dX0_hangFrom_130 : decode cX0_hangFrom 130 = .ok (.ishl, 1) := dk_120 (dk_at dksX0_hangFrom_5 15 rfl rfl)
theorem dX0_hangFrom_131 : decode cX0_hangFrom 131 = .ok (.ior, 1) := dk_128 (dk_at dksX0_hangFrom_5 16 rfl rfl)
theorem dX0_hangFrom_132 : decode cX0_hangFrom 132 = .ok (.iload_n 3, 1) := dk_29 (dk_at dksX0_hangFrom_5 17 rfl rfl)
theorem dX0_hangFrom_133 : decode cX0_hangFrom 133 = .ok (.iload 5, 2) := dk_21 5 (dk_at dksX0_hangFrom_5 18 rfl rfl)
theorem dX0_hangFrom_135 : decode cX0_hangFrom 135 = .ok (.aload_n 0, 1) := dk_42 (dk_at dksX0_hangFrom_5 20 rfl rfl)
theorem dX0_hangFrom_136 : decode cX0_hangFrom 136 = .ok (.getfield 1, 3) := dk_180 0 1 (dk_at dksX0_hangFrom_5 21 rfl rfl)
theorem dX0_hangFrom_139 : decode cX0_hangFrom 139 = .ok (.getfield 138, 3) := dk_180 0 138 (dk_at dksX0_hangFrom_6 0 rfl rfl)
theorem dX0_hangFrom_142 : decode cX0_hangFrom 142 = .ok (.iload 4, 2) := dk_21 4 (dk_at dksX0_hangFrom_6 3 rfl rfl)
theorem dX0_hangFrom_144 : decode cX0_hangFrom 144 = .ok (.iaload, 1) := dk_46 (dk_at dksX0_hangFrom_6 5 rfl rfl)
theorem dX0_hangFrom_145 : decode cX0_hangFrom 145 = .ok (.imul, 1) := dk_104 (dk_at dksX0_hangFrom_6 6 rfl rfl)
theorem dX0_hangFrom_146 : decode cX0_hangFrom 146 = .ok (.iadd, 1) := dk_96 (dk_at dksX0_hangFrom_6 7 rfl rfl)
theorem dX0_hangFrom_147 : decode cX0_hangFrom 147 = .ok (.invokevirtual 221, 3) := dk_182 0 221 (dk_at dksX0_hangFrom_6 8 rfl rfl)
theorem dX0_hangFrom_150 : decode cX0_hangFrom 150 = .ok (.iinc 4 1, 3) := dk_132 4 1 (dk_at dksX0_hangFrom_6 11 rfl rfl)
theorem dX0_hangFrom_153 : decode cX0_hangFrom 153 = .ok (.goto (-110), 3) := dk_167 255 146 (dk_at dksX0_hangFrom_6 14 rfl rfl)
theorem dX0_hangFrom_156 : decode cX0_hangFrom 156 = .ok (.return_, 1) := dk_177 (dk_at dksX0_hangFrom_6 17 rfl rfl)
abbrev cX0_round : ByteArray := prog_1_method_26_code
def yX0_round : MethodName := ⟨RX0, "round", "(I)I"⟩
def dkwX0_round_5 : List UInt8 := [172]
abbrev dktX0_round_5 : List UInt8 := dkwX0_round_5 ++ []
def dkwX0_round_4 : List UInt8 := [21, 4, 160, 0, 7, 4, 167, 0, 4, 3, 62, 132, 4, 1, 167, 255, 200, 132, 2, 1, 167, 255, 185, 28]
abbrev dktX0_round_4 : List UInt8 := dkwX0_round_4 ++ dktX0_round_5
def dkwX0_round_3 : List UInt8 := [180, 0, 19, 42, 180, 0, 64, 21, 4, 46, 46, 79, 29, 153, 0, 19, 42, 180, 0, 64, 21, 4, 46]
abbrev dktX0_round_3 : List UInt8 := dkwX0_round_3 ++ dktX0_round_4
def dkwX0_round_2 : List UInt8 := [4, 62, 3, 54, 4, 21, 4, 42, 180, 0, 1, 180, 0, 7, 162, 0, 50, 42, 180, 0, 64, 21, 4, 42]
abbrev dktX0_round_2 : List UInt8 := dkwX0_round_2 ++ dktX0_round_3
def dkwX0_round_1 : List UInt8 := [162, 0, 16, 42, 180, 0, 64, 28, 28, 79, 132, 2, 1, 167, 255, 235, 3, 61, 3, 62, 29, 154, 0, 73]
abbrev dktX0_round_1 : List UInt8 := dkwX0_round_1 ++ dktX0_round_2
def dkwX0_round_0 : List UInt8 := [27, 184, 0, 201, 154, 0, 5, 2, 172, 42, 27, 182, 0, 214, 3, 61, 28, 42, 180, 0, 1, 180, 0, 7]
abbrev dktX0_round_0 : List UInt8 := dkwX0_round_0 ++ dktX0_round_1
theorem dksX0_round_0 : cX0_round.data.toList.drop 0 = dktX0_round_0 := by decide +kernel
theorem dksX0_round_1 : cX0_round.data.toList.drop 24 = dktX0_round_1 := dk_seg dksX0_round_0 24 rfl rfl
theorem dksX0_round_2 : cX0_round.data.toList.drop 48 = dktX0_round_2 := dk_seg dksX0_round_1 24 rfl rfl
theorem dksX0_round_3 : cX0_round.data.toList.drop 72 = dktX0_round_3 := dk_seg dksX0_round_2 24 rfl rfl
theorem dksX0_round_4 : cX0_round.data.toList.drop 95 = dktX0_round_4 := dk_seg dksX0_round_3 23 rfl rfl
theorem dksX0_round_5 : cX0_round.data.toList.drop 119 = dktX0_round_5 := dk_seg dksX0_round_4 24 rfl rfl
theorem dX0_round_0 : decode cX0_round 0 = .ok (.iload_n 1, 1) := dk_27 (dk_at dksX0_round_0 0 rfl rfl)
theorem dX0_round_1 : decode cX0_round 1 = .ok (.invokestatic 201, 3) := dk_184 0 201 (dk_at dksX0_round_0 1 rfl rfl)
theorem dX0_round_4 : decode cX0_round 4 = .ok (.ifCond .ne 5, 3) := dk_154 0 5 (dk_at dksX0_round_0 4 rfl rfl)
theorem dX0_round_7 : decode cX0_round 7 = .ok (.iconst (-1), 1) := dk_2 (dk_at dksX0_round_0 7 rfl rfl)
theorem dX0_round_8 : decode cX0_round 8 = .ok (.ireturn, 1) := dk_172 (dk_at dksX0_round_0 8 rfl rfl)
theorem dX0_round_9 : decode cX0_round 9 = .ok (.aload_n 0, 1) := dk_42 (dk_at dksX0_round_0 9 rfl rfl)
theorem dX0_round_10 : decode cX0_round 10 = .ok (.iload_n 1, 1) := dk_27 (dk_at dksX0_round_0 10 rfl rfl)
theorem dX0_round_11 : decode cX0_round 11 = .ok (.invokevirtual 214, 3) := dk_182 0 214 (dk_at dksX0_round_0 11 rfl rfl)
theorem dX0_round_14 : decode cX0_round 14 = .ok (.iconst 0, 1) := dk_3 (dk_at dksX0_round_0 14 rfl rfl)
theorem dX0_round_15 : decode cX0_round 15 = .ok (.istore_n 2, 1) := dk_61 (dk_at dksX0_round_0 15 rfl rfl)
theorem dX0_round_16 : decode cX0_round 16 = .ok (.iload_n 2, 1) := dk_28 (dk_at dksX0_round_0 16 rfl rfl)
theorem dX0_round_17 : decode cX0_round 17 = .ok (.aload_n 0, 1) := dk_42 (dk_at dksX0_round_0 17 rfl rfl)
theorem dX0_round_18 : decode cX0_round 18 = .ok (.getfield 1, 3) := dk_180 0 1 (dk_at dksX0_round_0 18 rfl rfl)
theorem dX0_round_21 : decode cX0_round 21 = .ok (.getfield 7, 3) := dk_180 0 7 (dk_at dksX0_round_0 21 rfl rfl)
theorem dX0_round_24 : decode cX0_round 24 = .ok (.if_icmp .ge 16, 3) := dk_162 0 16 (dk_at dksX0_round_1 0 rfl rfl)
theorem dX0_round_27 : decode cX0_round 27 = .ok (.aload_n 0, 1) := dk_42 (dk_at dksX0_round_1 3 rfl rfl)
theorem dX0_round_28 : decode cX0_round 28 = .ok (.getfield 64, 3) := dk_180 0 64 (dk_at dksX0_round_1 4 rfl rfl)
theorem dX0_round_31 : decode cX0_round 31 = .ok (.iload_n 2, 1) := dk_28 (dk_at dksX0_round_1 7 rfl rfl)
theorem dX0_round_32 : decode cX0_round 32 = .ok (.iload_n 2, 1) := dk_28 (dk_at dksX0_round_1 8 rfl rfl)
theorem dX0_round_33 : decode cX0_round 33 = .ok (.iastore, 1) := dk_79 (dk_at dksX0_round_1 9 rfl rfl)
theorem dX0_round_34 : decode cX0_round 34 = .ok (.iinc 2 1, 3) := dk_132 2 1 (dk_at dksX0_round_1 10 rfl rfl)
theorem dX0_round_37 : decode cX0_round 37 = .ok (.goto (-21), 3) := dk_167 255 235 (dk_at dksX0_round_1 13 rfl rfl)
theorem dX0_round_40 : decode cX0_round 40 = .ok (.iconst 0, 1) := dk_3 (dk_at dksX0_round_1 16 rfl rfl)
theorem dX0_round_41 : decode cX0_round 41 = .ok (.istore_n 2, 1) := dk_61 (dk_at dksX0_round_1 17 rfl rfl)
theorem dX0_round_42 : decode cX0_round 42 = .ok (.iconst 0, 1) := dk_3 (dk_at dksX0_round_1 18 rfl rfl)
theorem dX0_round_43 : decode cX0_round 43 = .ok (.istore_n 3, 1) := dk_62 (dk_at dksX0_round_1 19 rfl rfl)
theorem dX0_round_44 : decode cX0_round 44 = .ok (.iload_n 3, 1) := dk_29 (dk_at dksX0_round_1 20 rfl rfl)
theorem dX0_round_45 : decode cX0_round 45 = .ok (.ifCond .ne 73, 3) := dk_154 0 73 (dk_at dksX0_round_1 21 rfl rfl)
theorem dX0_round_48 : decode cX0_round 48 = .ok (.iconst 1, 1) := dk_4 (dk_at dksX0_round_2 0 rfl rfl)
theorem dX0_round_49 : decode cX0_round 49 = .ok (.istore_n 3, 1) := dk_62 (dk_at dksX0_round_2 1 rfl rfl)
theorem dX0_round_50 : decode cX0_round 50 = .ok (.iconst 0, 1) := dk_3 (dk_at dksX0_round_2 2 rfl rfl)
theorem dX0_round_51 : decode cX0_round 51 = .ok (.istore 4, 2) := dk_54 4 (dk_at dksX0_round_2 3 rfl rfl)
theorem dX0_round_53 : decode cX0_round 53 = .ok (.iload 4, 2) := dk_21 4 (dk_at dksX0_round_2 5 rfl rfl)
theorem dX0_round_55 : decode cX0_round 55 = .ok (.aload_n 0, 1) := dk_42 (dk_at dksX0_round_2 7 rfl rfl)
theorem dX0_round_56 : decode cX0_round 56 = .ok (.getfield 1, 3) := dk_180 0 1 (dk_at dksX0_round_2 8 rfl rfl)
theorem dX0_round_59 : decode cX0_round 59 = .ok (.getfield 7, 3) := dk_180 0 7 (dk_at dksX0_round_2 11 rfl rfl)
theorem dX0_round_62 : decode cX0_round 62 = .ok (.if_icmp .ge 50, 3) := dk_162 0 50 (dk_at dksX0_round_2 14 rfl rfl)
theorem dX0_round_65 : decode cX0_round 65 = .ok (.aload_n 0, 1) := dk_42 (dk_at dksX0_round_2 17 rfl rfl)
theorem dX0_round_66 : decode cX0_round 66 = .ok (.getfield 64, 3) := dk_180 0 64 (dk_at dksX0_round_2 18 rfl rfl)
theorem dX0_round_69 : decode cX0_round 69 = .ok (.iload 4, 2) := dk_21 4 (dk_at dksX0_round_2 21 rfl rfl)
theorem dX0_round_71 : decode cX0_round 71 = .ok (.aload_n 0, 1) := dk_42 (dk_at dksX0_round_2 23 rfl rfl)
theorem dX0_round_72 : decode cX0_round 72 = .ok (.getfield 19, 3) := dk_180 0 19 (dk_at dksX0_round_3 0 rfl rfl)
theorem dX0_round_75 : decode cX0_round 75 = .ok (.aload_n 0, 1) := dk_42 (dk_at dksX0_round_3 3 rfl rfl)
theorem dX0_round_76 : decode cX0_round 76 = .ok (.getfield 64, 3) := dk_180 0 64 (dk_at dksX0_round_3 4 rfl rfl)
theorem dX0_round_79 : decode cX0_round 79 = .ok (.iload 4, 2) := dk_21 4 (dk_at dksX0_round_3 7 rfl rfl)
theorem dX0_round_81 : decode cX0_round 81 = .ok (.iaload, 1) := dk_46 (dk_at dksX0_round_3 9 rfl rfl)
theorem dX0_round_82 : decode cX0_round 82 = .ok (.iaload, 1) := dk_46 (dk_at dksX0_round_3 10 rfl rfl)
theorem dX0_round_83 : decode cX0_round 83 = .ok (.iastore, 1) := dk_79 (dk_at dksX0_round_3 11 rfl rfl)
theorem dX0_round_84 : decode cX0_round 84 = .ok (.iload_n 3, 1) := dk_29 (dk_at dksX0_round_3 12 rfl rfl)
theorem dX0_round_85 : decode cX0_round 85 = .ok (.ifCond .eq 19, 3) := dk_153 0 19 (dk_at dksX0_round_3 13 rfl rfl)
theorem dX0_round_88 : decode cX0_round 88 = .ok (.aload_n 0, 1) := dk_42 (dk_at dksX0_round_3 16 rfl rfl)
theorem dX0_round_89 : decode cX0_round 89 = .ok (.getfield 64, 3) := dk_180 0 64 (dk_at dksX0_round_3 17 rfl rfl)
theorem dX0_round_92 : decode cX0_round 92 = .ok (.iload 4, 2) := dk_21 4 (dk_at dksX0_round_3 20 rfl rfl)
theorem dX0_round_94 : decode cX0_round 94 = .ok (.iaload, 1) := dk_46 (dk_at dksX0_round_3 22 rfl rfl)
theorem dX0_round_95 : decode cX0_round 95 = .ok (.iload 4, 2) := dk_21 4 (dk_at dksX0_round_4 0 rfl rfl)
theorem dX0_round_97 : decode cX0_round 97 = .ok (.if_icmp .ne 7, 3) := dk_160 0 7 (dk_at dksX0_round_4 2 rfl rfl)
theorem dX0_round_100 : decode cX0_round 100 = .ok (.iconst 1, 1) := dk_4 (dk_at dksX0_round_4 5 rfl rfl)
theorem dX0_round_101 : decode cX0_round 101 = .ok (.goto 4, 3) := dk_167 0 4 (dk_at dksX0_round_4 6 rfl rfl)
theorem dX0_round_104 : decode cX0_round 104 = .ok (.iconst 0, 1) := dk_3 (dk_at dksX0_round_4 9 rfl rfl)
theorem dX0_round_105 : decode cX0_round 105 = .ok (.istore_n 3, 1) := dk_62 (dk_at dksX0_round_4 10 rfl rfl)
theorem dX0_round_106 : decode cX0_round 106 = .ok (.iinc 4 1, 3) := dk_132 4 1 (dk_at dksX0_round_4 11 rfl rfl)
theorem dX0_round_109 : decode cX0_round 109 = .ok (.goto (-56), 3) := dk_167 255 200 (dk_at dksX0_round_4 14 rfl rfl)
theorem dX0_round_112 : decode cX0_round 112 = .ok (.iinc 2 1, 3) := dk_132 2 1 (dk_at dksX0_round_4 17 rfl rfl)
theorem dX0_round_115 : decode cX0_round 115 = .ok (.goto (-71), 3) := dk_167 255 185 (dk_at dksX0_round_4 20 rfl rfl)
theorem dX0_round_118 : decode cX0_round 118 = .ok (.iload_n 2, 1) := dk_28 (dk_at dksX0_round_4 23 rfl rfl)
theorem dX0_round_119 : decode cX0_round 119 = .ok (.ireturn, 1) := dk_172 (dk_at dksX0_round_5 0 rfl rfl)
abbrev cX0_crossed : ByteArray := prog_1_method_28_code
def yX0_crossed : MethodName := ⟨RX0, "crossed", "()I"⟩
def dkwX0_crossed_2 : List UInt8 := [132, 2, 1, 167, 255, 226, 132, 1, 1, 167, 255, 205, 16, 247, 172]
abbrev dktX0_crossed_2 : List UInt8 := dkwX0_crossed_2 ++ []
def dkwX0_crossed_1 : List UInt8 := [180, 0, 167, 162, 0, 25, 42, 27, 28, 182, 0, 225, 153, 0, 10, 16, 10, 27, 104, 28, 96, 172]
abbrev dktX0_crossed_1 : List UInt8 := dkwX0_crossed_1 ++ dktX0_crossed_2
def dkwX0_crossed_0 : List UInt8 := [3, 60, 27, 42, 180, 0, 1, 180, 0, 167, 162, 0, 46, 27, 4, 96, 61, 28, 42, 180, 0, 1]
abbrev dktX0_crossed_0 : List UInt8 := dkwX0_crossed_0 ++ dktX0_crossed_1
theorem dksX0_crossed_0 : cX0_crossed.data.toList.drop 0 = dktX0_crossed_0 := by decide +kernel
theorem dksX0_crossed_1 : cX0_crossed.data.toList.drop 22 = dktX0_crossed_1 := dk_seg dksX0_crossed_0 22 rfl rfl
theorem dksX0_crossed_2 : cX0_crossed.data.toList.drop 44 = dktX0_crossed_2 := dk_seg dksX0_crossed_1 22 rfl rfl
theorem dX0_crossed_0 : decode cX0_crossed 0 = .ok (.iconst 0, 1) := dk_3 (dk_at dksX0_crossed_0 0 rfl rfl)
theorem dX0_crossed_1 : decode cX0_crossed 1 = .ok (.istore_n 1, 1) := dk_60 (dk_at dksX0_crossed_0 1 rfl rfl)
theorem dX0_crossed_2 : decode cX0_crossed 2 = .ok (.iload_n 1, 1) := dk_27 (dk_at dksX0_crossed_0 2 rfl rfl)
theorem dX0_crossed_3 : decode cX0_crossed 3 = .ok (.aload_n 0, 1) := dk_42 (dk_at dksX0_crossed_0 3 rfl rfl)
theorem dX0_crossed_4 : decode cX0_crossed 4 = .ok (.getfield 1, 3) := dk_180 0 1 (dk_at dksX0_crossed_0 4 rfl rfl)
theorem dX0_crossed_7 : decode cX0_crossed 7 = .ok (.getfield 167, 3) := dk_180 0 167 (dk_at dksX0_crossed_0 7 rfl rfl)
theorem dX0_crossed_10 : decode cX0_crossed 10 = .ok (.if_icmp .ge 46, 3) := dk_162 0 46 (dk_at dksX0_crossed_0 10 rfl rfl)
theorem dX0_crossed_13 : decode cX0_crossed 13 = .ok (.iload_n 1, 1) := dk_27 (dk_at dksX0_crossed_0 13 rfl rfl)
theorem dX0_crossed_14 : decode cX0_crossed 14 = .ok (.iconst 1, 1) := dk_4 (dk_at dksX0_crossed_0 14 rfl rfl)
theorem dX0_crossed_15 : decode cX0_crossed 15 = .ok (.iadd, 1) := dk_96 (dk_at dksX0_crossed_0 15 rfl rfl)
theorem dX0_crossed_16 : decode cX0_crossed 16 = .ok (.istore_n 2, 1) := dk_61 (dk_at dksX0_crossed_0 16 rfl rfl)
theorem dX0_crossed_17 : decode cX0_crossed 17 = .ok (.iload_n 2, 1) := dk_28 (dk_at dksX0_crossed_0 17 rfl rfl)
theorem dX0_crossed_18 : decode cX0_crossed 18 = .ok (.aload_n 0, 1) := dk_42 (dk_at dksX0_crossed_0 18 rfl rfl)
theorem dX0_crossed_19 : decode cX0_crossed 19 = .ok (.getfield 1, 3) := dk_180 0 1 (dk_at dksX0_crossed_0 19 rfl rfl)
theorem dX0_crossed_22 : decode cX0_crossed 22 = .ok (.getfield 167, 3) := dk_180 0 167 (dk_at dksX0_crossed_1 0 rfl rfl)
theorem dX0_crossed_25 : decode cX0_crossed 25 = .ok (.if_icmp .ge 25, 3) := dk_162 0 25 (dk_at dksX0_crossed_1 3 rfl rfl)
theorem dX0_crossed_28 : decode cX0_crossed 28 = .ok (.aload_n 0, 1) := dk_42 (dk_at dksX0_crossed_1 6 rfl rfl)
theorem dX0_crossed_29 : decode cX0_crossed 29 = .ok (.iload_n 1, 1) := dk_27 (dk_at dksX0_crossed_1 7 rfl rfl)
theorem dX0_crossed_30 : decode cX0_crossed 30 = .ok (.iload_n 2, 1) := dk_28 (dk_at dksX0_crossed_1 8 rfl rfl)
theorem dX0_crossed_31 : decode cX0_crossed 31 = .ok (.invokevirtual 225, 3) := dk_182 0 225 (dk_at dksX0_crossed_1 9 rfl rfl)
theorem dX0_crossed_34 : decode cX0_crossed 34 = .ok (.ifCond .eq 10, 3) := dk_153 0 10 (dk_at dksX0_crossed_1 12 rfl rfl)
theorem dX0_crossed_37 : decode cX0_crossed 37 = .ok (.bipush 10, 2) := dk_16 10 (dk_at dksX0_crossed_1 15 rfl rfl)
theorem dX0_crossed_39 : decode cX0_crossed 39 = .ok (.iload_n 1, 1) := dk_27 (dk_at dksX0_crossed_1 17 rfl rfl)
theorem dX0_crossed_40 : decode cX0_crossed 40 = .ok (.imul, 1) := dk_104 (dk_at dksX0_crossed_1 18 rfl rfl)
theorem dX0_crossed_41 : decode cX0_crossed 41 = .ok (.iload_n 2, 1) := dk_28 (dk_at dksX0_crossed_1 19 rfl rfl)
theorem dX0_crossed_42 : decode cX0_crossed 42 = .ok (.iadd, 1) := dk_96 (dk_at dksX0_crossed_1 20 rfl rfl)
theorem dX0_crossed_43 : decode cX0_crossed 43 = .ok (.ireturn, 1) := dk_172 (dk_at dksX0_crossed_1 21 rfl rfl)
theorem dX0_crossed_44 : decode cX0_crossed 44 = .ok (.iinc 2 1, 3) := dk_132 2 1 (dk_at dksX0_crossed_2 0 rfl rfl)
theorem dX0_crossed_47 : decode cX0_crossed 47 = .ok (.goto (-30), 3) := dk_167 255 226 (dk_at dksX0_crossed_2 3 rfl rfl)
theorem dX0_crossed_50 : decode cX0_crossed 50 = .ok (.iinc 1 1, 3) := dk_132 1 1 (dk_at dksX0_crossed_2 6 rfl rfl)
theorem dX0_crossed_53 : decode cX0_crossed 53 = .ok (.goto (-51), 3) := dk_167 255 205 (dk_at dksX0_crossed_2 9 rfl rfl)
theorem dX0_crossed_56 : decode cX0_crossed 56 = .ok (.bipush (-9), 2) := dk_16 247 (dk_at dksX0_crossed_2 12 rfl rfl)
theorem dX0_crossed_58 : decode cX0_crossed 58 = .ok (.ireturn, 1) := dk_172 (dk_at dksX0_crossed_2 14 rfl rfl)
abbrev cX0_areCrossed : ByteArray := prog_1_method_27_code
def yX0_areCrossed : MethodName := ⟨RX0, "areCrossed", "(II)Z"⟩
def dkwX0_areCrossed_3 : List UInt8 := [180, 0, 176, 28, 46, 160, 0, 13, 29, 21, 4, 159, 0, 7, 4, 167, 0, 4, 3, 172]
abbrev dktX0_areCrossed_3 : List UInt8 := dkwX0_areCrossed_3 ++ []
def dkwX0_areCrossed_2 : List UInt8 := [160, 0, 7, 4, 167, 0, 4, 3, 54, 4, 42, 180, 0, 1, 180, 0, 176, 27, 46, 42, 180, 0, 1]
abbrev dktX0_areCrossed_2 : List UInt8 := dkwX0_areCrossed_2 ++ dktX0_areCrossed_3
def dkwX0_areCrossed_1 : List UInt8 := [167, 0, 4, 3, 62, 42, 180, 0, 1, 180, 0, 173, 27, 46, 42, 180, 0, 1, 180, 0, 173, 28, 46]
abbrev dktX0_areCrossed_1 : List UInt8 := dkwX0_areCrossed_1 ++ dktX0_areCrossed_2
def dkwX0_areCrossed_0 : List UInt8 := [42, 180, 0, 1, 180, 0, 170, 27, 46, 42, 180, 0, 1, 180, 0, 170, 28, 46, 160, 0, 7, 4]
abbrev dktX0_areCrossed_0 : List UInt8 := dkwX0_areCrossed_0 ++ dktX0_areCrossed_1
theorem dksX0_areCrossed_0 : cX0_areCrossed.data.toList.drop 0 = dktX0_areCrossed_0 := by decide +kernel
theorem dksX0_areCrossed_1 : cX0_areCrossed.data.toList.drop 22 = dktX0_areCrossed_1 := dk_seg dksX0_areCrossed_0 22 rfl rfl
theorem dksX0_areCrossed_2 : cX0_areCrossed.data.toList.drop 45 = dktX0_areCrossed_2 := dk_seg dksX0_areCrossed_1 23 rfl rfl
theorem dksX0_areCrossed_3 : cX0_areCrossed.data.toList.drop 68 = dktX0_areCrossed_3 := dk_seg dksX0_areCrossed_2 23 rfl rfl
theorem dX0_areCrossed_0 : decode cX0_areCrossed 0 = .ok (.aload_n 0, 1) := dk_42 (dk_at dksX0_areCrossed_0 0 rfl rfl)
theorem dX0_areCrossed_1 : decode cX0_areCrossed 1 = .ok (.getfield 1, 3) := dk_180 0 1 (dk_at dksX0_areCrossed_0 1 rfl rfl)
theorem dX0_areCrossed_4 : decode cX0_areCrossed 4 = .ok (.getfield 170, 3) := dk_180 0 170 (dk_at dksX0_areCrossed_0 4 rfl rfl)
theorem dX0_areCrossed_7 : decode cX0_areCrossed 7 = .ok (.iload_n 1, 1) := dk_27 (dk_at dksX0_areCrossed_0 7 rfl rfl)
theorem dX0_areCrossed_8 : decode cX0_areCrossed 8 = .ok (.iaload, 1) := dk_46 (dk_at dksX0_areCrossed_0 8 rfl rfl)
theorem dX0_areCrossed_9 : decode cX0_areCrossed 9 = .ok (.aload_n 0, 1) := dk_42 (dk_at dksX0_areCrossed_0 9 rfl rfl)
theorem dX0_areCrossed_10 : decode cX0_areCrossed 10 = .ok (.getfield 1, 3) := dk_180 0 1 (dk_at dksX0_areCrossed_0 10 rfl rfl)
theorem dX0_areCrossed_13 : decode cX0_areCrossed 13 = .ok (.getfield 170, 3) := dk_180 0 170 (dk_at dksX0_areCrossed_0 13 rfl rfl)
theorem dX0_areCrossed_16 : decode cX0_areCrossed 16 = .ok (.iload_n 2, 1) := dk_28 (dk_at dksX0_areCrossed_0 16 rfl rfl)
theorem dX0_areCrossed_17 : decode cX0_areCrossed 17 = .ok (.iaload, 1) := dk_46 (dk_at dksX0_areCrossed_0 17 rfl rfl)
theorem dX0_areCrossed_18 : decode cX0_areCrossed 18 = .ok (.if_icmp .ne 7, 3) := dk_160 0 7 (dk_at dksX0_areCrossed_0 18 rfl rfl)
theorem dX0_areCrossed_21 : decode cX0_areCrossed 21 = .ok (.iconst 1, 1) := dk_4 (dk_at dksX0_areCrossed_0 21 rfl rfl)
theorem dX0_areCrossed_22 : decode cX0_areCrossed 22 = .ok (.goto 4, 3) := dk_167 0 4 (dk_at dksX0_areCrossed_1 0 rfl rfl)
theorem dX0_areCrossed_25 : decode cX0_areCrossed 25 = .ok (.iconst 0, 1) := dk_3 (dk_at dksX0_areCrossed_1 3 rfl rfl)
theorem dX0_areCrossed_26 : decode cX0_areCrossed 26 = .ok (.istore_n 3, 1) := dk_62 (dk_at dksX0_areCrossed_1 4 rfl rfl)
theorem dX0_areCrossed_27 : decode cX0_areCrossed 27 = .ok (.aload_n 0, 1) := dk_42 (dk_at dksX0_areCrossed_1 5 rfl rfl)
theorem dX0_areCrossed_28 : decode cX0_areCrossed 28 = .ok (.getfield 1, 3) := dk_180 0 1 (dk_at dksX0_areCrossed_1 6 rfl rfl)
theorem dX0_areCrossed_31 : decode cX0_areCrossed 31 = .ok (.getfield 173, 3) := dk_180 0 173 (dk_at dksX0_areCrossed_1 9 rfl rfl)
theorem dX0_areCrossed_34 : decode cX0_areCrossed 34 = .ok (.iload_n 1, 1) := dk_27 (dk_at dksX0_areCrossed_1 12 rfl rfl)
theorem dX0_areCrossed_35 : decode cX0_areCrossed 35 = .ok (.iaload, 1) := dk_46 (dk_at dksX0_areCrossed_1 13 rfl rfl)
theorem dX0_areCrossed_36 : decode cX0_areCrossed 36 = .ok (.aload_n 0, 1) := dk_42 (dk_at dksX0_areCrossed_1 14 rfl rfl)
theorem dX0_areCrossed_37 : decode cX0_areCrossed 37 = .ok (.getfield 1, 3) := dk_180 0 1 (dk_at dksX0_areCrossed_1 15 rfl rfl)
theorem dX0_areCrossed_40 : decode cX0_areCrossed 40 = .ok (.getfield 173, 3) := dk_180 0 173 (dk_at dksX0_areCrossed_1 18 rfl rfl)
theorem dX0_areCrossed_43 : decode cX0_areCrossed 43 = .ok (.iload_n 2, 1) := dk_28 (dk_at dksX0_areCrossed_1 21 rfl rfl)
theorem dX0_areCrossed_44 : decode cX0_areCrossed 44 = .ok (.iaload, 1) := dk_46 (dk_at dksX0_areCrossed_1 22 rfl rfl)
theorem dX0_areCrossed_45 : decode cX0_areCrossed 45 = .ok (.if_icmp .ne 7, 3) := dk_160 0 7 (dk_at dksX0_areCrossed_2 0 rfl rfl)
theorem dX0_areCrossed_48 : decode cX0_areCrossed 48 = .ok (.iconst 1, 1) := dk_4 (dk_at dksX0_areCrossed_2 3 rfl rfl)
theorem dX0_areCrossed_49 : decode cX0_areCrossed 49 = .ok (.goto 4, 3) := dk_167 0 4 (dk_at dksX0_areCrossed_2 4 rfl rfl)
theorem dX0_areCrossed_52 : decode cX0_areCrossed 52 = .ok (.iconst 0, 1) := dk_3 (dk_at dksX0_areCrossed_2 7 rfl rfl)
theorem dX0_areCrossed_53 : decode cX0_areCrossed 53 = .ok (.istore 4, 2) := dk_54 4 (dk_at dksX0_areCrossed_2 8 rfl rfl)
theorem dX0_areCrossed_55 : decode cX0_areCrossed 55 = .ok (.aload_n 0, 1) := dk_42 (dk_at dksX0_areCrossed_2 10 rfl rfl)
theorem dX0_areCrossed_56 : decode cX0_areCrossed 56 = .ok (.getfield 1, 3) := dk_180 0 1 (dk_at dksX0_areCrossed_2 11 rfl rfl)
theorem dX0_areCrossed_59 : decode cX0_areCrossed 59 = .ok (.getfield 176, 3) := dk_180 0 176 (dk_at dksX0_areCrossed_2 14 rfl rfl)
theorem dX0_areCrossed_62 : decode cX0_areCrossed 62 = .ok (.iload_n 1, 1) := dk_27 (dk_at dksX0_areCrossed_2 17 rfl rfl)
theorem dX0_areCrossed_63 : decode cX0_areCrossed 63 = .ok (.iaload, 1) := dk_46 (dk_at dksX0_areCrossed_2 18 rfl rfl)
theorem dX0_areCrossed_64 : decode cX0_areCrossed 64 = .ok (.aload_n 0, 1) := dk_42 (dk_at dksX0_areCrossed_2 19 rfl rfl)
theorem dX0_areCrossed_65 : decode cX0_areCrossed 65 = .ok (.getfield 1, 3) := dk_180 0 1 (dk_at dksX0_areCrossed_2 20 rfl rfl)
theorem dX0_areCrossed_68 : decode cX0_areCrossed 68 = .ok (.getfield 176, 3) := dk_180 0 176 (dk_at dksX0_areCrossed_3 0 rfl rfl)
theorem dX0_areCrossed_71 : decode cX0_areCrossed 71 = .ok (.iload_n 2, 1) := dk_28 (dk_at dksX0_areCrossed_3 3 rfl rfl)
theorem dX0_areCrossed_72 : decode cX0_areCrossed 72 = .ok (.iaload, 1) := dk_46 (dk_at dksX0_areCrossed_3 4 rfl rfl)
theorem dX0_areCrossed_73 : decode cX0_areCrossed 73 = .ok (.if_icmp .ne 13, 3) := dk_160 0 13 (dk_at dksX0_areCrossed_3 5 rfl rfl)
theorem dX0_areCrossed_76 : decode cX0_areCrossed 76 = .ok (.iload_n 3, 1) := dk_29 (dk_at dksX0_areCrossed_3 8 rfl rfl)
theorem dX0_areCrossed_77 : decode cX0_areCrossed 77 = .ok (.iload 4, 2) := dk_21 4 (dk_at dksX0_areCrossed_3 9 rfl rfl)
theorem dX0_areCrossed_79 : decode cX0_areCrossed 79 = .ok (.if_icmp .eq 7, 3) := dk_159 0 7 (dk_at dksX0_areCrossed_3 11 rfl rfl)
theorem dX0_areCrossed_82 : decode cX0_areCrossed 82 = .ok (.iconst 1, 1) := dk_4 (dk_at dksX0_areCrossed_3 14 rfl rfl)
theorem dX0_areCrossed_83 : decode cX0_areCrossed 83 = .ok (.goto 4, 3) := dk_167 0 4 (dk_at dksX0_areCrossed_3 15 rfl rfl)
theorem dX0_areCrossed_86 : decode cX0_areCrossed 86 = .ok (.iconst 0, 1) := dk_3 (dk_at dksX0_areCrossed_3 18 rfl rfl)
theorem dX0_areCrossed_87 : decode cX0_areCrossed 87 = .ok (.ireturn, 1) := dk_172 (dk_at dksX0_areCrossed_3 19 rfl rfl)
abbrev cX0_oaths : ByteArray := prog_1_method_29_code
def yX0_oaths : MethodName := ⟨RX0, "oaths", "(I)I"⟩
def dkwX0_oaths_2 : List UInt8 := [132, 3, 1, 167, 255, 221, 28, 172]
abbrev dktX0_oaths_2 : List UInt8 := dkwX0_oaths_2 ++ []
def dkwX0_oaths_1 : List UInt8 := [162, 0, 30, 28, 42, 180, 0, 38, 180, 0, 179, 29, 46, 27, 160, 0, 7, 4, 167, 0, 4, 3, 96, 61]
abbrev dktX0_oaths_1 : List UInt8 := dkwX0_oaths_1 ++ dktX0_oaths_2
def dkwX0_oaths_0 : List UInt8 := [27, 3, 5, 184, 0, 101, 154, 0, 5, 2, 172, 3, 61, 3, 62, 29, 42, 180, 0, 1, 180, 0, 167]
abbrev dktX0_oaths_0 : List UInt8 := dkwX0_oaths_0 ++ dktX0_oaths_1
theorem dksX0_oaths_0 : cX0_oaths.data.toList.drop 0 = dktX0_oaths_0 := by decide +kernel
theorem dksX0_oaths_1 : cX0_oaths.data.toList.drop 23 = dktX0_oaths_1 := dk_seg dksX0_oaths_0 23 rfl rfl
theorem dksX0_oaths_2 : cX0_oaths.data.toList.drop 47 = dktX0_oaths_2 := dk_seg dksX0_oaths_1 24 rfl rfl
theorem dX0_oaths_0 : decode cX0_oaths 0 = .ok (.iload_n 1, 1) := dk_27 (dk_at dksX0_oaths_0 0 rfl rfl)
theorem dX0_oaths_1 : decode cX0_oaths 1 = .ok (.iconst 0, 1) := dk_3 (dk_at dksX0_oaths_0 1 rfl rfl)
theorem dX0_oaths_2 : decode cX0_oaths 2 = .ok (.iconst 2, 1) := dk_5 (dk_at dksX0_oaths_0 2 rfl rfl)
theorem dX0_oaths_3 : decode cX0_oaths 3 = .ok (.invokestatic 101, 3) := dk_184 0 101 (dk_at dksX0_oaths_0 3 rfl rfl)
theorem dX0_oaths_6 : decode cX0_oaths 6 = .ok (.ifCond .ne 5, 3) := dk_154 0 5 (dk_at dksX0_oaths_0 6 rfl rfl)
theorem dX0_oaths_9 : decode cX0_oaths 9 = .ok (.iconst (-1), 1) := dk_2 (dk_at dksX0_oaths_0 9 rfl rfl)
theorem dX0_oaths_10 : decode cX0_oaths 10 = .ok (.ireturn, 1) := dk_172 (dk_at dksX0_oaths_0 10 rfl rfl)
theorem dX0_oaths_11 : decode cX0_oaths 11 = .ok (.iconst 0, 1) := dk_3 (dk_at dksX0_oaths_0 11 rfl rfl)
theorem dX0_oaths_12 : decode cX0_oaths 12 = .ok (.istore_n 2, 1) := dk_61 (dk_at dksX0_oaths_0 12 rfl rfl)
theorem dX0_oaths_13 : decode cX0_oaths 13 = .ok (.iconst 0, 1) := dk_3 (dk_at dksX0_oaths_0 13 rfl rfl)
theorem dX0_oaths_14 : decode cX0_oaths 14 = .ok (.istore_n 3, 1) := dk_62 (dk_at dksX0_oaths_0 14 rfl rfl)
theorem dX0_oaths_15 : decode cX0_oaths 15 = .ok (.iload_n 3, 1) := dk_29 (dk_at dksX0_oaths_0 15 rfl rfl)
theorem dX0_oaths_16 : decode cX0_oaths 16 = .ok (.aload_n 0, 1) := dk_42 (dk_at dksX0_oaths_0 16 rfl rfl)
theorem dX0_oaths_17 : decode cX0_oaths 17 = .ok (.getfield 1, 3) := dk_180 0 1 (dk_at dksX0_oaths_0 17 rfl rfl)
theorem dX0_oaths_20 : decode cX0_oaths 20 = .ok (.getfield 167, 3) := dk_180 0 167 (dk_at dksX0_oaths_0 20 rfl rfl)
theorem dX0_oaths_23 : decode cX0_oaths 23 = .ok (.if_icmp .ge 30, 3) := dk_162 0 30 (dk_at dksX0_oaths_1 0 rfl rfl)
theorem dX0_oaths_26 : decode cX0_oaths 26 = .ok (.iload_n 2, 1) := dk_28 (dk_at dksX0_oaths_1 3 rfl rfl)
theorem dX0_oaths_27 : decode cX0_oaths 27 = .ok (.aload_n 0, 1) := dk_42 (dk_at dksX0_oaths_1 4 rfl rfl)
theorem dX0_oaths_28 : decode cX0_oaths 28 = .ok (.getfield 38, 3) := dk_180 0 38 (dk_at dksX0_oaths_1 5 rfl rfl)
theorem dX0_oaths_31 : decode cX0_oaths 31 = .ok (.getfield 179, 3) := dk_180 0 179 (dk_at dksX0_oaths_1 8 rfl rfl)
theorem dX0_oaths_34 : decode cX0_oaths 34 = .ok (.iload_n 3, 1) := dk_29 (dk_at dksX0_oaths_1 11 rfl rfl)
theorem dX0_oaths_35 : decode cX0_oaths 35 = .ok (.iaload, 1) := dk_46 (dk_at dksX0_oaths_1 12 rfl rfl)
theorem dX0_oaths_36 : decode cX0_oaths 36 = .ok (.iload_n 1, 1) := dk_27 (dk_at dksX0_oaths_1 13 rfl rfl)
theorem dX0_oaths_37 : decode cX0_oaths 37 = .ok (.if_icmp .ne 7, 3) := dk_160 0 7 (dk_at dksX0_oaths_1 14 rfl rfl)
theorem dX0_oaths_40 : decode cX0_oaths 40 = .ok (.iconst 1, 1) := dk_4 (dk_at dksX0_oaths_1 17 rfl rfl)
theorem dX0_oaths_41 : decode cX0_oaths 41 = .ok (.goto 4, 3) := dk_167 0 4 (dk_at dksX0_oaths_1 18 rfl rfl)
theorem dX0_oaths_44 : decode cX0_oaths 44 = .ok (.iconst 0, 1) := dk_3 (dk_at dksX0_oaths_1 21 rfl rfl)
theorem dX0_oaths_45 : decode cX0_oaths 45 = .ok (.iadd, 1) := dk_96 (dk_at dksX0_oaths_1 22 rfl rfl)
theorem dX0_oaths_46 : decode cX0_oaths 46 = .ok (.istore_n 2, 1) := dk_61 (dk_at dksX0_oaths_1 23 rfl rfl)
theorem dX0_oaths_47 : decode cX0_oaths 47 = .ok (.iinc 3 1, 3) := dk_132 3 1 (dk_at dksX0_oaths_2 0 rfl rfl)
theorem dX0_oaths_50 : decode cX0_oaths 50 = .ok (.goto (-35), 3) := dk_167 255 221 (dk_at dksX0_oaths_2 3 rfl rfl)
theorem dX0_oaths_53 : decode cX0_oaths 53 = .ok (.iload_n 2, 1) := dk_28 (dk_at dksX0_oaths_2 6 rfl rfl)
theorem dX0_oaths_54 : decode cX0_oaths 54 = .ok (.ireturn, 1) := dk_172 (dk_at dksX0_oaths_2 7 rfl rfl)
abbrev cX0_strokes : ByteArray := prog_1_method_30_code
def yX0_strokes : MethodName := ⟨RX0, "strokes", "(II)I"⟩
def dkwX0_strokes_1 : List UInt8 := [50, 28, 46, 167, 0, 4, 2, 172]
abbrev dktX0_strokes_1 : List UInt8 := dkwX0_strokes_1 ++ []
def dkwX0_strokes_0 : List UInt8 := [42, 27, 182, 0, 141, 153, 0, 25, 42, 28, 182, 0, 141, 153, 0, 17, 42, 180, 0, 38, 180, 0, 229, 27]
abbrev dktX0_strokes_0 : List UInt8 := dkwX0_strokes_0 ++ dktX0_strokes_1
theorem dksX0_strokes_0 : cX0_strokes.data.toList.drop 0 = dktX0_strokes_0 := by decide +kernel
theorem dksX0_strokes_1 : cX0_strokes.data.toList.drop 24 = dktX0_strokes_1 := dk_seg dksX0_strokes_0 24 rfl rfl
theorem dX0_strokes_0 : decode cX0_strokes 0 = .ok (.aload_n 0, 1) := dk_42 (dk_at dksX0_strokes_0 0 rfl rfl)
theorem dX0_strokes_1 : decode cX0_strokes 1 = .ok (.iload_n 1, 1) := dk_27 (dk_at dksX0_strokes_0 1 rfl rfl)
theorem dX0_strokes_2 : decode cX0_strokes 2 = .ok (.invokevirtual 141, 3) := dk_182 0 141 (dk_at dksX0_strokes_0 2 rfl rfl)
theorem dX0_strokes_5 : decode cX0_strokes 5 = .ok (.ifCond .eq 25, 3) := dk_153 0 25 (dk_at dksX0_strokes_0 5 rfl rfl)
theorem dX0_strokes_8 : decode cX0_strokes 8 = .ok (.aload_n 0, 1) := dk_42 (dk_at dksX0_strokes_0 8 rfl rfl)
theorem dX0_strokes_9 : decode cX0_strokes 9 = .ok (.iload_n 2, 1) := dk_28 (dk_at dksX0_strokes_0 9 rfl rfl)
theorem dX0_strokes_10 : decode cX0_strokes 10 = .ok (.invokevirtual 141, 3) := dk_182 0 141 (dk_at dksX0_strokes_0 10 rfl rfl)
theorem dX0_strokes_13 : decode cX0_strokes 13 = .ok (.ifCond .eq 17, 3) := dk_153 0 17 (dk_at dksX0_strokes_0 13 rfl rfl)
theorem dX0_strokes_16 : decode cX0_strokes 16 = .ok (.aload_n 0, 1) := dk_42 (dk_at dksX0_strokes_0 16 rfl rfl)
theorem dX0_strokes_17 : decode cX0_strokes 17 = .ok (.getfield 38, 3) := dk_180 0 38 (dk_at dksX0_strokes_0 17 rfl rfl)
theorem dX0_strokes_20 : decode cX0_strokes 20 = .ok (.getfield 229, 3) := dk_180 0 229 (dk_at dksX0_strokes_0 20 rfl rfl)
theorem dX0_strokes_23 : decode cX0_strokes 23 = .ok (.iload_n 1, 1) := dk_27 (dk_at dksX0_strokes_0 23 rfl rfl)
theorem dX0_strokes_24 : decode cX0_strokes 24 = .ok (.aaload, 1) := dk_50 (dk_at dksX0_strokes_1 0 rfl rfl)
theorem dX0_strokes_25 : decode cX0_strokes 25 = .ok (.iload_n 2, 1) := dk_28 (dk_at dksX0_strokes_1 1 rfl rfl)
theorem dX0_strokes_26 : decode cX0_strokes 26 = .ok (.iaload, 1) := dk_46 (dk_at dksX0_strokes_1 2 rfl rfl)
theorem dX0_strokes_27 : decode cX0_strokes 27 = .ok (.goto 4, 3) := dk_167 0 4 (dk_at dksX0_strokes_1 3 rfl rfl)
theorem dX0_strokes_30 : decode cX0_strokes 30 = .ok (.iconst (-1), 1) := dk_2 (dk_at dksX0_strokes_1 6 rfl rfl)
theorem dX0_strokes_31 : decode cX0_strokes 31 = .ok (.ireturn, 1) := dk_172 (dk_at dksX0_strokes_1 7 rfl rfl)
abbrev cX0_found : ByteArray := prog_1_method_31_code
def yX0_found : MethodName := ⟨RX0, "found", "(II)I"⟩
def dkwX0_found_2 : List UInt8 := [28, 79, 42, 89, 180, 0, 123, 4, 96, 181, 0, 123, 42, 180, 0, 123, 172]
abbrev dktX0_found_2 : List UInt8 := dkwX0_found_2 ++ []
def dkwX0_found_1 : List UInt8 := [160, 0, 6, 16, 253, 172, 42, 180, 0, 70, 42, 180, 0, 123, 27, 79, 42, 180, 0, 73, 42, 180, 0, 123]
abbrev dktX0_found_1 : List UInt8 := dkwX0_found_1 ++ dktX0_found_2
def dkwX0_found_0 : List UInt8 := [42, 27, 182, 0, 141, 153, 0, 11, 42, 28, 182, 0, 141, 154, 0, 5, 2, 172, 42, 180, 0, 123, 8]
abbrev dktX0_found_0 : List UInt8 := dkwX0_found_0 ++ dktX0_found_1
theorem dksX0_found_0 : cX0_found.data.toList.drop 0 = dktX0_found_0 := by decide +kernel
theorem dksX0_found_1 : cX0_found.data.toList.drop 23 = dktX0_found_1 := dk_seg dksX0_found_0 23 rfl rfl
theorem dksX0_found_2 : cX0_found.data.toList.drop 47 = dktX0_found_2 := dk_seg dksX0_found_1 24 rfl rfl
theorem dX0_found_0 : decode cX0_found 0 = .ok (.aload_n 0, 1) := dk_42 (dk_at dksX0_found_0 0 rfl rfl)
theorem dX0_found_1 : decode cX0_found 1 = .ok (.iload_n 1, 1) := dk_27 (dk_at dksX0_found_0 1 rfl rfl)
theorem dX0_found_2 : decode cX0_found 2 = .ok (.invokevirtual 141, 3) := dk_182 0 141 (dk_at dksX0_found_0 2 rfl rfl)
theorem dX0_found_5 : decode cX0_found 5 = .ok (.ifCond .eq 11, 3) := dk_153 0 11 (dk_at dksX0_found_0 5 rfl rfl)
theorem dX0_found_8 : decode cX0_found 8 = .ok (.aload_n 0, 1) := dk_42 (dk_at dksX0_found_0 8 rfl rfl)
theorem dX0_found_9 : decode cX0_found 9 = .ok (.iload_n 2, 1) := dk_28 (dk_at dksX0_found_0 9 rfl rfl)
theorem dX0_found_10 : decode cX0_found 10 = .ok (.invokevirtual 141, 3) := dk_182 0 141 (dk_at dksX0_found_0 10 rfl rfl)
theorem dX0_found_13 : decode cX0_found 13 = .ok (.ifCond .ne 5, 3) := dk_154 0 5 (dk_at dksX0_found_0 13 rfl rfl)
theorem dX0_found_16 : decode cX0_found 16 = .ok (.iconst (-1), 1) := dk_2 (dk_at dksX0_found_0 16 rfl rfl)
theorem dX0_found_17 : decode cX0_found 17 = .ok (.ireturn, 1) := dk_172 (dk_at dksX0_found_0 17 rfl rfl)
theorem dX0_found_18 : decode cX0_found 18 = .ok (.aload_n 0, 1) := dk_42 (dk_at dksX0_found_0 18 rfl rfl)
theorem dX0_found_19 : decode cX0_found 19 = .ok (.getfield 123, 3) := dk_180 0 123 (dk_at dksX0_found_0 19 rfl rfl)
theorem dX0_found_22 : decode cX0_found 22 = .ok (.iconst 5, 1) := dk_8 (dk_at dksX0_found_0 22 rfl rfl)
theorem dX0_found_23 : decode cX0_found 23 = .ok (.if_icmp .ne 6, 3) := dk_160 0 6 (dk_at dksX0_found_1 0 rfl rfl)
theorem dX0_found_26 : decode cX0_found 26 = .ok (.bipush (-3), 2) := dk_16 253 (dk_at dksX0_found_1 3 rfl rfl)
theorem dX0_found_28 : decode cX0_found 28 = .ok (.ireturn, 1) := dk_172 (dk_at dksX0_found_1 5 rfl rfl)
theorem dX0_found_29 : decode cX0_found 29 = .ok (.aload_n 0, 1) := dk_42 (dk_at dksX0_found_1 6 rfl rfl)
theorem dX0_found_30 : decode cX0_found 30 = .ok (.getfield 70, 3) := dk_180 0 70 (dk_at dksX0_found_1 7 rfl rfl)
theorem dX0_found_33 : decode cX0_found 33 = .ok (.aload_n 0, 1) := dk_42 (dk_at dksX0_found_1 10 rfl rfl)
theorem dX0_found_34 : decode cX0_found 34 = .ok (.getfield 123, 3) := dk_180 0 123 (dk_at dksX0_found_1 11 rfl rfl)
theorem dX0_found_37 : decode cX0_found 37 = .ok (.iload_n 1, 1) := dk_27 (dk_at dksX0_found_1 14 rfl rfl)
theorem dX0_found_38 : decode cX0_found 38 = .ok (.iastore, 1) := dk_79 (dk_at dksX0_found_1 15 rfl rfl)
theorem dX0_found_39 : decode cX0_found 39 = .ok (.aload_n 0, 1) := dk_42 (dk_at dksX0_found_1 16 rfl rfl)
theorem dX0_found_40 : decode cX0_found 40 = .ok (.getfield 73, 3) := dk_180 0 73 (dk_at dksX0_found_1 17 rfl rfl)
theorem dX0_found_43 : decode cX0_found 43 = .ok (.aload_n 0, 1) := dk_42 (dk_at dksX0_found_1 20 rfl rfl)
theorem dX0_found_44 : decode cX0_found 44 = .ok (.getfield 123, 3) := dk_180 0 123 (dk_at dksX0_found_1 21 rfl rfl)
theorem dX0_found_47 : decode cX0_found 47 = .ok (.iload_n 2, 1) := dk_28 (dk_at dksX0_found_2 0 rfl rfl)
theorem dX0_found_48 : decode cX0_found 48 = .ok (.iastore, 1) := dk_79 (dk_at dksX0_found_2 1 rfl rfl)
theorem dX0_found_49 : decode cX0_found 49 = .ok (.aload_n 0, 1) := dk_42 (dk_at dksX0_found_2 2 rfl rfl)
theorem dX0_found_50 : decode cX0_found 50 = .ok (.dup, 1) := dk_89 (dk_at dksX0_found_2 3 rfl rfl)
theorem dX0_found_51 : decode cX0_found 51 = .ok (.getfield 123, 3) := dk_180 0 123 (dk_at dksX0_found_2 4 rfl rfl)
theorem dX0_found_54 : decode cX0_found 54 = .ok (.iconst 1, 1) := dk_4 (dk_at dksX0_found_2 7 rfl rfl)
theorem dX0_found_55 : decode cX0_found 55 = .ok (.iadd, 1) := dk_96 (dk_at dksX0_found_2 8 rfl rfl)
theorem dX0_found_56 : decode cX0_found 56 = .ok (.putfield 123, 3) := dk_181 0 123 (dk_at dksX0_found_2 9 rfl rfl)
theorem dX0_found_59 : decode cX0_found 59 = .ok (.aload_n 0, 1) := dk_42 (dk_at dksX0_found_2 12 rfl rfl)
theorem dX0_found_60 : decode cX0_found 60 = .ok (.getfield 123, 3) := dk_180 0 123 (dk_at dksX0_found_2 13 rfl rfl)
theorem dX0_found_63 : decode cX0_found 63 = .ok (.ireturn, 1) := dk_172 (dk_at dksX0_found_2 16 rfl rfl)
abbrev cX0_forget : ByteArray := prog_1_method_32_code
def yX0_forget : MethodName := ⟨RX0, "forget", "()I"⟩
def dkwX0_forget_0 : List UInt8 := [42, 180, 0, 123, 60, 42, 3, 181, 0, 123, 27, 172]
abbrev dktX0_forget_0 : List UInt8 := dkwX0_forget_0 ++ []
theorem dksX0_forget_0 : cX0_forget.data.toList.drop 0 = dktX0_forget_0 := by decide +kernel
theorem dX0_forget_0 : decode cX0_forget 0 = .ok (.aload_n 0, 1) := dk_42 (dk_at dksX0_forget_0 0 rfl rfl)
theorem dX0_forget_1 : decode cX0_forget 1 = .ok (.getfield 123, 3) := dk_180 0 123 (dk_at dksX0_forget_0 1 rfl rfl)
theorem dX0_forget_4 : decode cX0_forget 4 = .ok (.istore_n 1, 1) := dk_60 (dk_at dksX0_forget_0 4 rfl rfl)
theorem dX0_forget_5 : decode cX0_forget 5 = .ok (.aload_n 0, 1) := dk_42 (dk_at dksX0_forget_0 5 rfl rfl)
theorem dX0_forget_6 : decode cX0_forget 6 = .ok (.iconst 0, 1) := dk_3 (dk_at dksX0_forget_0 6 rfl rfl)
theorem dX0_forget_7 : decode cX0_forget 7 = .ok (.putfield 123, 3) := dk_181 0 123 (dk_at dksX0_forget_0 7 rfl rfl)
theorem dX0_forget_10 : decode cX0_forget 10 = .ok (.iload_n 1, 1) := dk_27 (dk_at dksX0_forget_0 10 rfl rfl)
theorem dX0_forget_11 : decode cX0_forget 11 = .ok (.ireturn, 1) := dk_172 (dk_at dksX0_forget_0 11 rfl rfl)
abbrev cX0_which : ByteArray := prog_1_method_33_code
def yX0_which : MethodName := ⟨RX0, "which", "(I)I"⟩
def dkwX0_which_5 : List UInt8 := [167, 255, 157, 27, 154, 0, 7, 28, 167, 0, 4, 29, 172]
abbrev dktX0_which_5 : List UInt8 := dkwX0_which_5 ++ []
def dkwX0_which_4 : List UInt8 := [21, 5, 153, 0, 17, 28, 154, 0, 8, 21, 4, 167, 0, 4, 29, 62, 132, 2, 1, 132, 4, 1]
abbrev dktX0_which_4 : List UInt8 := dkwX0_which_4 ++ dktX0_which_5
def dkwX0_which_3 : List UInt8 := [46, 42, 180, 0, 70, 21, 6, 46, 160, 0, 7, 4, 167, 0, 4, 3, 54, 5, 132, 6, 1, 167, 255, 202]
abbrev dktX0_which_3 : List UInt8 := dkwX0_which_3 ++ dktX0_which_4
def dkwX0_which_2 : List UInt8 := [21, 5, 153, 0, 37, 42, 180, 0, 38, 180, 0, 145, 42, 180, 0, 19, 42, 180, 0, 73, 21, 6, 46, 46]
abbrev dktX0_which_2 : List UInt8 := dkwX0_which_2 ++ dktX0_which_3
def dkwX0_which_1 : List UInt8 := [162, 0, 97, 42, 21, 4, 182, 0, 214, 4, 54, 5, 3, 54, 6, 21, 6, 42, 180, 0, 123, 162, 0, 51]
abbrev dktX0_which_1 : List UInt8 := dkwX0_which_1 ++ dktX0_which_2
def dkwX0_which_0 : List UInt8 := [27, 3, 4, 184, 0, 101, 154, 0, 5, 2, 172, 3, 61, 16, 247, 62, 3, 54, 4, 21, 4, 17, 3, 232]
abbrev dktX0_which_0 : List UInt8 := dkwX0_which_0 ++ dktX0_which_1
theorem dksX0_which_0 : cX0_which.data.toList.drop 0 = dktX0_which_0 := by decide +kernel
theorem dksX0_which_1 : cX0_which.data.toList.drop 24 = dktX0_which_1 := dk_seg dksX0_which_0 24 rfl rfl
theorem dksX0_which_2 : cX0_which.data.toList.drop 48 = dktX0_which_2 := dk_seg dksX0_which_1 24 rfl rfl
theorem dksX0_which_3 : cX0_which.data.toList.drop 72 = dktX0_which_3 := dk_seg dksX0_which_2 24 rfl rfl
theorem dksX0_which_4 : cX0_which.data.toList.drop 96 = dktX0_which_4 := dk_seg dksX0_which_3 24 rfl rfl
theorem dksX0_which_5 : cX0_which.data.toList.drop 118 = dktX0_which_5 := dk_seg dksX0_which_4 22 rfl rfl
theorem dX0_which_0 : decode cX0_which 0 = .ok (.iload_n 1, 1) := dk_27 (dk_at dksX0_which_0 0 rfl rfl)
theorem dX0_which_1 : decode cX0_which 1 = .ok (.iconst 0, 1) := dk_3 (dk_at dksX0_which_0 1 rfl rfl)
theorem dX0_which_2 : decode cX0_which 2 = .ok (.iconst 1, 1) := dk_4 (dk_at dksX0_which_0 2 rfl rfl)
theorem dX0_which_3 : decode cX0_which 3 = .ok (.invokestatic 101, 3) := dk_184 0 101 (dk_at dksX0_which_0 3 rfl rfl)
theorem dX0_which_6 : decode cX0_which 6 = .ok (.ifCond .ne 5, 3) := dk_154 0 5 (dk_at dksX0_which_0 6 rfl rfl)
theorem dX0_which_9 : decode cX0_which 9 = .ok (.iconst (-1), 1) := dk_2 (dk_at dksX0_which_0 9 rfl rfl)
theorem dX0_which_10 : decode cX0_which 10 = .ok (.ireturn, 1) := dk_172 (dk_at dksX0_which_0 10 rfl rfl)
theorem dX0_which_11 : decode cX0_which 11 = .ok (.iconst 0, 1) := dk_3 (dk_at dksX0_which_0 11 rfl rfl)
theorem dX0_which_12 : decode cX0_which 12 = .ok (.istore_n 2, 1) := dk_61 (dk_at dksX0_which_0 12 rfl rfl)
theorem dX0_which_13 : decode cX0_which 13 = .ok (.bipush (-9), 2) := dk_16 247 (dk_at dksX0_which_0 13 rfl rfl)
theorem dX0_which_15 : decode cX0_which 15 = .ok (.istore_n 3, 1) := dk_62 (dk_at dksX0_which_0 15 rfl rfl)
theorem dX0_which_16 : decode cX0_which 16 = .ok (.iconst 0, 1) := dk_3 (dk_at dksX0_which_0 16 rfl rfl)
theorem dX0_which_17 : decode cX0_which 17 = .ok (.istore 4, 2) := dk_54 4 (dk_at dksX0_which_0 17 rfl rfl)
theorem dX0_which_19 : decode cX0_which 19 = .ok (.iload 4, 2) := dk_21 4 (dk_at dksX0_which_0 19 rfl rfl)
theorem dX0_which_21 : decode cX0_which 21 = .ok (.sipush 1000, 3) := dk_17 3 232 (dk_at dksX0_which_0 21 rfl rfl)
theorem dX0_which_24 : decode cX0_which 24 = .ok (.if_icmp .ge 97, 3) := dk_162 0 97 (dk_at dksX0_which_1 0 rfl rfl)
theorem dX0_which_27 : decode cX0_which 27 = .ok (.aload_n 0, 1) := dk_42 (dk_at dksX0_which_1 3 rfl rfl)
theorem dX0_which_28 : decode cX0_which 28 = .ok (.iload 4, 2) := dk_21 4 (dk_at dksX0_which_1 4 rfl rfl)
theorem dX0_which_30 : decode cX0_which 30 = .ok (.invokevirtual 214, 3) := dk_182 0 214 (dk_at dksX0_which_1 6 rfl rfl)
theorem dX0_which_33 : decode cX0_which 33 = .ok (.iconst 1, 1) := dk_4 (dk_at dksX0_which_1 9 rfl rfl)
theorem dX0_which_34 : decode cX0_which 34 = .ok (.istore 5, 2) := dk_54 5 (dk_at dksX0_which_1 10 rfl rfl)
theorem dX0_which_36 : decode cX0_which 36 = .ok (.iconst 0, 1) := dk_3 (dk_at dksX0_which_1 12 rfl rfl)
theorem dX0_which_37 : decode cX0_which 37 = .ok (.istore 6, 2) := dk_54 6 (dk_at dksX0_which_1 13 rfl rfl)
theorem dX0_which_39 : decode cX0_which 39 = .ok (.iload 6, 2) := dk_21 6 (dk_at dksX0_which_1 15 rfl rfl)
theorem dX0_which_41 : decode cX0_which 41 = .ok (.aload_n 0, 1) := dk_42 (dk_at dksX0_which_1 17 rfl rfl)
theorem dX0_which_42 : decode cX0_which 42 = .ok (.getfield 123, 3) := dk_180 0 123 (dk_at dksX0_which_1 18 rfl rfl)
theorem dX0_which_45 : decode cX0_which 45 = .ok (.if_icmp .ge 51, 3) := dk_162 0 51 (dk_at dksX0_which_1 21 rfl rfl)
theorem dX0_which_48 : decode cX0_which 48 = .ok (.iload 5, 2) := dk_21 5 (dk_at dksX0_which_2 0 rfl rfl)
theorem dX0_which_50 : decode cX0_which 50 = .ok (.ifCond .eq 37, 3) := dk_153 0 37 (dk_at dksX0_which_2 2 rfl rfl)
theorem dX0_which_53 : decode cX0_which 53 = .ok (.aload_n 0, 1) := dk_42 (dk_at dksX0_which_2 5 rfl rfl)
theorem dX0_which_54 : decode cX0_which 54 = .ok (.getfield 38, 3) := dk_180 0 38 (dk_at dksX0_which_2 6 rfl rfl)
theorem dX0_which_57 : decode cX0_which 57 = .ok (.getfield 145, 3) := dk_180 0 145 (dk_at dksX0_which_2 9 rfl rfl)
theorem dX0_which_60 : decode cX0_which 60 = .ok (.aload_n 0, 1) := dk_42 (dk_at dksX0_which_2 12 rfl rfl)
theorem dX0_which_61 : decode cX0_which 61 = .ok (.getfield 19, 3) := dk_180 0 19 (dk_at dksX0_which_2 13 rfl rfl)
theorem dX0_which_64 : decode cX0_which 64 = .ok (.aload_n 0, 1) := dk_42 (dk_at dksX0_which_2 16 rfl rfl)
theorem dX0_which_65 : decode cX0_which 65 = .ok (.getfield 73, 3) := dk_180 0 73 (dk_at dksX0_which_2 17 rfl rfl)
theorem dX0_which_68 : decode cX0_which 68 = .ok (.iload 6, 2) := dk_21 6 (dk_at dksX0_which_2 20 rfl rfl)
theorem dX0_which_70 : decode cX0_which 70 = .ok (.iaload, 1) := dk_46 (dk_at dksX0_which_2 22 rfl rfl)
theorem dX0_which_71 : decode cX0_which 71 = .ok (.iaload, 1) := dk_46 (dk_at dksX0_which_2 23 rfl rfl)
theorem dX0_which_72 : decode cX0_which 72 = .ok (.iaload, 1) := dk_46 (dk_at dksX0_which_3 0 rfl rfl)
theorem dX0_which_73 : decode cX0_which 73 = .ok (.aload_n 0, 1) := dk_42 (dk_at dksX0_which_3 1 rfl rfl)
theorem dX0_which_74 : decode cX0_which 74 = .ok (.getfield 70, 3) := dk_180 0 70 (dk_at dksX0_which_3 2 rfl rfl)
theorem dX0_which_77 : decode cX0_which 77 = .ok (.iload 6, 2) := dk_21 6 (dk_at dksX0_which_3 5 rfl rfl)
theorem dX0_which_79 : decode cX0_which 79 = .ok (.iaload, 1) := dk_46 (dk_at dksX0_which_3 7 rfl rfl)
theorem dX0_which_80 : decode cX0_which 80 = .ok (.if_icmp .ne 7, 3) := dk_160 0 7 (dk_at dksX0_which_3 8 rfl rfl)
theorem dX0_which_83 : decode cX0_which 83 = .ok (.iconst 1, 1) := dk_4 (dk_at dksX0_which_3 11 rfl rfl)
theorem dX0_which_84 : decode cX0_which 84 = .ok (.goto 4, 3) := dk_167 0 4 (dk_at dksX0_which_3 12 rfl rfl)
theorem dX0_which_87 : decode cX0_which 87 = .ok (.iconst 0, 1) := dk_3 (dk_at dksX0_which_3 15 rfl rfl)
theorem dX0_which_88 : decode cX0_which 88 = .ok (.istore 5, 2) := dk_54 5 (dk_at dksX0_which_3 16 rfl rfl)
theorem dX0_which_90 : decode cX0_which 90 = .ok (.iinc 6 1, 3) := dk_132 6 1 (dk_at dksX0_which_3 18 rfl rfl)
theorem dX0_which_93 : decode cX0_which 93 = .ok (.goto (-54), 3) := dk_167 255 202 (dk_at dksX0_which_3 21 rfl rfl)
theorem dX0_which_96 : decode cX0_which 96 = .ok (.iload 5, 2) := dk_21 5 (dk_at dksX0_which_4 0 rfl rfl)
theorem dX0_which_98 : decode cX0_which 98 = .ok (.ifCond .eq 17, 3) := dk_153 0 17 (dk_at dksX0_which_4 2 rfl rfl)
theorem dX0_which_101 : decode cX0_which 101 = .ok (.iload_n 2, 1) := dk_28 (dk_at dksX0_which_4 5 rfl rfl)
theorem dX0_which_102 : decode cX0_which 102 = .ok (.ifCond .ne 8, 3) := dk_154 0 8 (dk_at dksX0_which_4 6 rfl rfl)
theorem dX0_which_105 : decode cX0_which 105 = .ok (.iload 4, 2) := dk_21 4 (dk_at dksX0_which_4 9 rfl rfl)
theorem dX0_which_107 : decode cX0_which 107 = .ok (.goto 4, 3) := dk_167 0 4 (dk_at dksX0_which_4 11 rfl rfl)
theorem dX0_which_110 : decode cX0_which 110 = .ok (.iload_n 3, 1) := dk_29 (dk_at dksX0_which_4 14 rfl rfl)
theorem dX0_which_111 : decode cX0_which 111 = .ok (.istore_n 3, 1) := dk_62 (dk_at dksX0_which_4 15 rfl rfl)
theorem dX0_which_112 : decode cX0_which 112 = .ok (.iinc 2 1, 3) := dk_132 2 1 (dk_at dksX0_which_4 16 rfl rfl)
theorem dX0_which_115 : decode cX0_which 115 = .ok (.iinc 4 1, 3) := dk_132 4 1 (dk_at dksX0_which_4 19 rfl rfl)
theorem dX0_which_118 : decode cX0_which 118 = .ok (.goto (-99), 3) := dk_167 255 157 (dk_at dksX0_which_5 0 rfl rfl)
theorem dX0_which_121 : decode cX0_which 121 = .ok (.iload_n 1, 1) := dk_27 (dk_at dksX0_which_5 3 rfl rfl)
theorem dX0_which_122 : decode cX0_which 122 = .ok (.ifCond .ne 7, 3) := dk_154 0 7 (dk_at dksX0_which_5 4 rfl rfl)
theorem dX0_which_125 : decode cX0_which 125 = .ok (.iload_n 2, 1) := dk_28 (dk_at dksX0_which_5 7 rfl rfl)
theorem dX0_which_126 : decode cX0_which 126 = .ok (.goto 4, 3) := dk_167 0 4 (dk_at dksX0_which_5 8 rfl rfl)
theorem dX0_which_129 : decode cX0_which 129 = .ok (.iload_n 3, 1) := dk_29 (dk_at dksX0_which_5 11 rfl rfl)
theorem dX0_which_130 : decode cX0_which 130 = .ok (.ireturn, 1) := dk_172 (dk_at dksX0_which_5 12 rfl rfl)
abbrev cX0_odds : ByteArray := prog_1_method_36_code
def yX0_odds : MethodName := ⟨RX0, "odds", "(I)I"⟩
def dkwX0_odds_2 : List UInt8 := [29, 184, 0, 235, 54, 4, 27, 154, 0, 10, 28, 21, 4, 108, 167, 0, 7, 29, 21, 4, 108, 172]
abbrev dktX0_odds_2 : List UInt8 := dkwX0_odds_2 ++ []
def dkwX0_odds_1 : List UInt8 := [21, 4, 42, 180, 0, 1, 180, 0, 7, 163, 0, 14, 29, 21, 4, 104, 62, 132, 4, 1, 167, 255, 236, 28]
abbrev dktX0_odds_1 : List UInt8 := dkwX0_odds_1 ++ dktX0_odds_2
def dkwX0_odds_0 : List UInt8 := [27, 3, 4, 184, 0, 101, 154, 0, 5, 2, 172, 42, 3, 3, 182, 0, 232, 61, 4, 62, 5, 54, 4]
abbrev dktX0_odds_0 : List UInt8 := dkwX0_odds_0 ++ dktX0_odds_1
theorem dksX0_odds_0 : cX0_odds.data.toList.drop 0 = dktX0_odds_0 := by decide +kernel
theorem dksX0_odds_1 : cX0_odds.data.toList.drop 23 = dktX0_odds_1 := dk_seg dksX0_odds_0 23 rfl rfl
theorem dksX0_odds_2 : cX0_odds.data.toList.drop 47 = dktX0_odds_2 := dk_seg dksX0_odds_1 24 rfl rfl
theorem dX0_odds_0 : decode cX0_odds 0 = .ok (.iload_n 1, 1) := dk_27 (dk_at dksX0_odds_0 0 rfl rfl)
theorem dX0_odds_1 : decode cX0_odds 1 = .ok (.iconst 0, 1) := dk_3 (dk_at dksX0_odds_0 1 rfl rfl)
theorem dX0_odds_2 : decode cX0_odds 2 = .ok (.iconst 1, 1) := dk_4 (dk_at dksX0_odds_0 2 rfl rfl)
theorem dX0_odds_3 : decode cX0_odds 3 = .ok (.invokestatic 101, 3) := dk_184 0 101 (dk_at dksX0_odds_0 3 rfl rfl)
theorem dX0_odds_6 : decode cX0_odds 6 = .ok (.ifCond .ne 5, 3) := dk_154 0 5 (dk_at dksX0_odds_0 6 rfl rfl)
theorem dX0_odds_9 : decode cX0_odds 9 = .ok (.iconst (-1), 1) := dk_2 (dk_at dksX0_odds_0 9 rfl rfl)
theorem dX0_odds_10 : decode cX0_odds 10 = .ok (.ireturn, 1) := dk_172 (dk_at dksX0_odds_0 10 rfl rfl)
theorem dX0_odds_11 : decode cX0_odds 11 = .ok (.aload_n 0, 1) := dk_42 (dk_at dksX0_odds_0 11 rfl rfl)
theorem dX0_odds_12 : decode cX0_odds 12 = .ok (.iconst 0, 1) := dk_3 (dk_at dksX0_odds_0 12 rfl rfl)
theorem dX0_odds_13 : decode cX0_odds 13 = .ok (.iconst 0, 1) := dk_3 (dk_at dksX0_odds_0 13 rfl rfl)
theorem dX0_odds_14 : decode cX0_odds 14 = .ok (.invokevirtual 232, 3) := dk_182 0 232 (dk_at dksX0_odds_0 14 rfl rfl)
theorem dX0_odds_17 : decode cX0_odds 17 = .ok (.istore_n 2, 1) := dk_61 (dk_at dksX0_odds_0 17 rfl rfl)
theorem dX0_odds_18 : decode cX0_odds 18 = .ok (.iconst 1, 1) := dk_4 (dk_at dksX0_odds_0 18 rfl rfl)
theorem dX0_odds_19 : decode cX0_odds 19 = .ok (.istore_n 3, 1) := dk_62 (dk_at dksX0_odds_0 19 rfl rfl)
theorem dX0_odds_20 : decode cX0_odds 20 = .ok (.iconst 2, 1) := dk_5 (dk_at dksX0_odds_0 20 rfl rfl)
theorem dX0_odds_21 : decode cX0_odds 21 = .ok (.istore 4, 2) := dk_54 4 (dk_at dksX0_odds_0 21 rfl rfl)
theorem dX0_odds_23 : decode cX0_odds 23 = .ok (.iload 4, 2) := dk_21 4 (dk_at dksX0_odds_1 0 rfl rfl)
theorem dX0_odds_25 : decode cX0_odds 25 = .ok (.aload_n 0, 1) := dk_42 (dk_at dksX0_odds_1 2 rfl rfl)
theorem dX0_odds_26 : decode cX0_odds 26 = .ok (.getfield 1, 3) := dk_180 0 1 (dk_at dksX0_odds_1 3 rfl rfl)
theorem dX0_odds_29 : decode cX0_odds 29 = .ok (.getfield 7, 3) := dk_180 0 7 (dk_at dksX0_odds_1 6 rfl rfl)
theorem dX0_odds_32 : decode cX0_odds 32 = .ok (.if_icmp .gt 14, 3) := dk_163 0 14 (dk_at dksX0_odds_1 9 rfl rfl)
theorem dX0_odds_35 : decode cX0_odds 35 = .ok (.iload_n 3, 1) := dk_29 (dk_at dksX0_odds_1 12 rfl rfl)
theorem dX0_odds_36 : decode cX0_odds 36 = .ok (.iload 4, 2) := dk_21 4 (dk_at dksX0_odds_1 13 rfl rfl)
theorem dX0_odds_38 : decode cX0_odds 38 = .ok (.imul, 1) := dk_104 (dk_at dksX0_odds_1 15 rfl rfl)
theorem dX0_odds_39 : decode cX0_odds 39 = .ok (.istore_n 3, 1) := dk_62 (dk_at dksX0_odds_1 16 rfl rfl)
theorem dX0_odds_40 : decode cX0_odds 40 = .ok (.iinc 4 1, 3) := dk_132 4 1 (dk_at dksX0_odds_1 17 rfl rfl)
theorem dX0_odds_43 : decode cX0_odds 43 = .ok (.goto (-20), 3) := dk_167 255 236 (dk_at dksX0_odds_1 20 rfl rfl)
theorem dX0_odds_46 : decode cX0_odds 46 = .ok (.iload_n 2, 1) := dk_28 (dk_at dksX0_odds_1 23 rfl rfl)
theorem dX0_odds_47 : decode cX0_odds 47 = .ok (.iload_n 3, 1) := dk_29 (dk_at dksX0_odds_2 0 rfl rfl)
theorem dX0_odds_48 : decode cX0_odds 48 = .ok (.invokestatic 235, 3) := dk_184 0 235 (dk_at dksX0_odds_2 1 rfl rfl)
theorem dX0_odds_51 : decode cX0_odds 51 = .ok (.istore 4, 2) := dk_54 4 (dk_at dksX0_odds_2 4 rfl rfl)
theorem dX0_odds_53 : decode cX0_odds 53 = .ok (.iload_n 1, 1) := dk_27 (dk_at dksX0_odds_2 6 rfl rfl)
theorem dX0_odds_54 : decode cX0_odds 54 = .ok (.ifCond .ne 10, 3) := dk_154 0 10 (dk_at dksX0_odds_2 7 rfl rfl)
theorem dX0_odds_57 : decode cX0_odds 57 = .ok (.iload_n 2, 1) := dk_28 (dk_at dksX0_odds_2 10 rfl rfl)
theorem dX0_odds_58 : decode cX0_odds 58 = .ok (.iload 4, 2) := dk_21 4 (dk_at dksX0_odds_2 11 rfl rfl)
theorem dX0_odds_60 : decode cX0_odds 60 = .ok (.idiv, 1) := dk_108 (dk_at dksX0_odds_2 13 rfl rfl)
theorem dX0_odds_61 : decode cX0_odds 61 = .ok (.goto 7, 3) := dk_167 0 7 (dk_at dksX0_odds_2 14 rfl rfl)
theorem dX0_odds_64 : decode cX0_odds 64 = .ok (.iload_n 3, 1) := dk_29 (dk_at dksX0_odds_2 17 rfl rfl)
theorem dX0_odds_65 : decode cX0_odds 65 = .ok (.iload 4, 2) := dk_21 4 (dk_at dksX0_odds_2 18 rfl rfl)
theorem dX0_odds_67 : decode cX0_odds 67 = .ok (.idiv, 1) := dk_108 (dk_at dksX0_odds_2 20 rfl rfl)
theorem dX0_odds_68 : decode cX0_odds 68 = .ok (.ireturn, 1) := dk_172 (dk_at dksX0_odds_2 21 rfl rfl)
abbrev cX0_ways : ByteArray := prog_1_method_34_code
def yX0_ways : MethodName := ⟨RX0, "ways", "(II)I"⟩
def dkwX0_ways_4 : List UInt8 := [132, 4, 1, 167, 255, 178, 29, 172]
abbrev dktX0_ways_4 : List UInt8 := dkwX0_ways_4 ++ []
def dkwX0_ways_3 : List UInt8 := [153, 0, 19, 42, 27, 4, 96, 28, 4, 21, 4, 120, 128, 182, 0, 232, 167, 0, 4, 3, 96, 62]
abbrev dktX0_ways_3 : List UInt8 := dkwX0_ways_3 ++ dktX0_ways_4
def dkwX0_ways_2 : List UInt8 := [42, 180, 0, 1, 180, 0, 138, 21, 4, 46, 161, 0, 7, 4, 167, 0, 4, 3, 54, 5, 29, 21, 5]
abbrev dktX0_ways_2 : List UInt8 := dkwX0_ways_2 ++ dktX0_ways_3
def dkwX0_ways_1 : List UInt8 := [180, 0, 7, 162, 0, 72, 28, 21, 4, 122, 4, 126, 154, 0, 29, 42, 180, 0, 38, 180, 0, 135, 27, 46]
abbrev dktX0_ways_1 : List UInt8 := dkwX0_ways_1 ++ dktX0_ways_2
def dkwX0_ways_0 : List UInt8 := [27, 42, 180, 0, 1, 180, 0, 7, 160, 0, 5, 4, 172, 3, 62, 3, 54, 4, 21, 4, 42, 180, 0, 1]
abbrev dktX0_ways_0 : List UInt8 := dkwX0_ways_0 ++ dktX0_ways_1
theorem dksX0_ways_0 : cX0_ways.data.toList.drop 0 = dktX0_ways_0 := by decide +kernel
theorem dksX0_ways_1 : cX0_ways.data.toList.drop 24 = dktX0_ways_1 := dk_seg dksX0_ways_0 24 rfl rfl
theorem dksX0_ways_2 : cX0_ways.data.toList.drop 48 = dktX0_ways_2 := dk_seg dksX0_ways_1 24 rfl rfl
theorem dksX0_ways_3 : cX0_ways.data.toList.drop 71 = dktX0_ways_3 := dk_seg dksX0_ways_2 23 rfl rfl
theorem dksX0_ways_4 : cX0_ways.data.toList.drop 93 = dktX0_ways_4 := dk_seg dksX0_ways_3 22 rfl rfl
theorem dX0_ways_0 : decode cX0_ways 0 = .ok (.iload_n 1, 1) := dk_27 (dk_at dksX0_ways_0 0 rfl rfl)
theorem dX0_ways_1 : decode cX0_ways 1 = .ok (.aload_n 0, 1) := dk_42 (dk_at dksX0_ways_0 1 rfl rfl)
theorem dX0_ways_2 : decode cX0_ways 2 = .ok (.getfield 1, 3) := dk_180 0 1 (dk_at dksX0_ways_0 2 rfl rfl)
theorem dX0_ways_5 : decode cX0_ways 5 = .ok (.getfield 7, 3) := dk_180 0 7 (dk_at dksX0_ways_0 5 rfl rfl)
theorem dX0_ways_8 : decode cX0_ways 8 = .ok (.if_icmp .ne 5, 3) := dk_160 0 5 (dk_at dksX0_ways_0 8 rfl rfl)
theorem dX0_ways_11 : decode cX0_ways 11 = .ok (.iconst 1, 1) := dk_4 (dk_at dksX0_ways_0 11 rfl rfl)
theorem dX0_ways_12 : decode cX0_ways 12 = .ok (.ireturn, 1) := dk_172 (dk_at dksX0_ways_0 12 rfl rfl)
theorem dX0_ways_13 : decode cX0_ways 13 = .ok (.iconst 0, 1) := dk_3 (dk_at dksX0_ways_0 13 rfl rfl)
theorem dX0_ways_14 : decode cX0_ways 14 = .ok (.istore_n 3, 1) := dk_62 (dk_at dksX0_ways_0 14 rfl rfl)
theorem dX0_ways_15 : decode cX0_ways 15 = .ok (.iconst 0, 1) := dk_3 (dk_at dksX0_ways_0 15 rfl rfl)
theorem dX0_ways_16 : decode cX0_ways 16 = .ok (.istore 4, 2) := dk_54 4 (dk_at dksX0_ways_0 16 rfl rfl)
theorem dX0_ways_18 : decode cX0_ways 18 = .ok (.iload 4, 2) := dk_21 4 (dk_at dksX0_ways_0 18 rfl rfl)
theorem dX0_ways_20 : decode cX0_ways 20 = .ok (.aload_n 0, 1) := dk_42 (dk_at dksX0_ways_0 20 rfl rfl)
theorem dX0_ways_21 : decode cX0_ways 21 = .ok (.getfield 1, 3) := dk_180 0 1 (dk_at dksX0_ways_0 21 rfl rfl)
theorem dX0_ways_24 : decode cX0_ways 24 = .ok (.getfield 7, 3) := dk_180 0 7 (dk_at dksX0_ways_1 0 rfl rfl)
theorem dX0_ways_27 : decode cX0_ways 27 = .ok (.if_icmp .ge 72, 3) := dk_162 0 72 (dk_at dksX0_ways_1 3 rfl rfl)
theorem dX0_ways_30 : decode cX0_ways 30 = .ok (.iload_n 2, 1) := dk_28 (dk_at dksX0_ways_1 6 rfl rfl)
theorem dX0_ways_31 : decode cX0_ways 31 = .ok (.iload 4, 2) := dk_21 4 (dk_at dksX0_ways_1 7 rfl rfl)
theorem dX0_ways_33 : decode cX0_ways 33 = .ok (.ishr, 1) := dk_122 (dk_at dksX0_ways_1 9 rfl rfl)
theorem dX0_ways_34 : decode cX0_ways 34 = .ok (.iconst 1, 1) := dk_4 (dk_at dksX0_ways_1 10 rfl rfl)
theorem dX0_ways_35 : decode cX0_ways 35 = .ok (.iand, 1) := dk_126 (dk_at dksX0_ways_1 11 rfl rfl)
theorem dX0_ways_36 : decode cX0_ways 36 = .ok (.ifCond .ne 29, 3) := dk_154 0 29 (dk_at dksX0_ways_1 12 rfl rfl)
theorem dX0_ways_39 : decode cX0_ways 39 = .ok (.aload_n 0, 1) := dk_42 (dk_at dksX0_ways_1 15 rfl rfl)
theorem dX0_ways_40 : decode cX0_ways 40 = .ok (.getfield 38, 3) := dk_180 0 38 (dk_at dksX0_ways_1 16 rfl rfl)
theorem dX0_ways_43 : decode cX0_ways 43 = .ok (.getfield 135, 3) := dk_180 0 135 (dk_at dksX0_ways_1 19 rfl rfl)
theorem dX0_ways_46 : decode cX0_ways 46 = .ok (.iload_n 1, 1) := dk_27 (dk_at dksX0_ways_1 22 rfl rfl)
theorem dX0_ways_47 : decode cX0_ways 47 = .ok (.iaload, 1) := dk_46 (dk_at dksX0_ways_1 23 rfl rfl)
theorem dX0_ways_48 : decode cX0_ways 48 = .ok (.aload_n 0, 1) := dk_42 (dk_at dksX0_ways_2 0 rfl rfl)
theorem dX0_ways_49 : decode cX0_ways 49 = .ok (.getfield 1, 3) := dk_180 0 1 (dk_at dksX0_ways_2 1 rfl rfl)
theorem dX0_ways_52 : decode cX0_ways 52 = .ok (.getfield 138, 3) := dk_180 0 138 (dk_at dksX0_ways_2 4 rfl rfl)
theorem dX0_ways_55 : decode cX0_ways 55 = .ok (.iload 4, 2) := dk_21 4 (dk_at dksX0_ways_2 7 rfl rfl)
theorem dX0_ways_57 : decode cX0_ways 57 = .ok (.iaload, 1) := dk_46 (dk_at dksX0_ways_2 9 rfl rfl)
theorem dX0_ways_58 : decode cX0_ways 58 = .ok (.if_icmp .lt 7, 3) := dk_161 0 7 (dk_at dksX0_ways_2 10 rfl rfl)
theorem dX0_ways_61 : decode cX0_ways 61 = .ok (.iconst 1, 1) := dk_4 (dk_at dksX0_ways_2 13 rfl rfl)
theorem dX0_ways_62 : decode cX0_ways 62 = .ok (.goto 4, 3) := dk_167 0 4 (dk_at dksX0_ways_2 14 rfl rfl)
theorem dX0_ways_65 : decode cX0_ways 65 = .ok (.iconst 0, 1) := dk_3 (dk_at dksX0_ways_2 17 rfl rfl)
theorem dX0_ways_66 : decode cX0_ways 66 = .ok (.istore 5, 2) := dk_54 5 (dk_at dksX0_ways_2 18 rfl rfl)
theorem dX0_ways_68 : decode cX0_ways 68 = .ok (.iload_n 3, 1) := dk_29 (dk_at dksX0_ways_2 20 rfl rfl)
theorem dX0_ways_69 : decode cX0_ways 69 = .ok (.iload 5, 2) := dk_21 5 (dk_at dksX0_ways_2 21 rfl rfl)
theorem dX0_ways_71 : decode cX0_ways 71 = .ok (.ifCond .eq 19, 3) := dk_153 0 19 (dk_at dksX0_ways_3 0 rfl rfl)
theorem dX0_ways_74 : decode cX0_ways 74 = .ok (.aload_n 0, 1) := dk_42 (dk_at dksX0_ways_3 3 rfl rfl)
theorem dX0_ways_75 : decode cX0_ways 75 = .ok (.iload_n 1, 1) := dk_27 (dk_at dksX0_ways_3 4 rfl rfl)
theorem dX0_ways_76 : decode cX0_ways 76 = .ok (.iconst 1, 1) := dk_4 (dk_at dksX0_ways_3 5 rfl rfl)
theorem dX0_ways_77 : decode cX0_ways 77 = .ok (.iadd, 1) := dk_96 (dk_at dksX0_ways_3 6 rfl rfl)
theorem dX0_ways_78 : decode cX0_ways 78 = .ok (.iload_n 2, 1) := dk_28 (dk_at dksX0_ways_3 7 rfl rfl)
theorem dX0_ways_79 : decode cX0_ways 79 = .ok (.iconst 1, 1) := dk_4 (dk_at dksX0_ways_3 8 rfl rfl)
theorem dX0_ways_80 : decode cX0_ways 80 = .ok (.iload 4, 2) := dk_21 4 (dk_at dksX0_ways_3 9 rfl rfl)
theorem dX0_ways_82 : decode cX0_ways 82 = .ok (.ishl, 1) := dk_120 (dk_at dksX0_ways_3 11 rfl rfl)
theorem dX0_ways_83 : decode cX0_ways 83 = .ok (.ior, 1) := dk_128 (dk_at dksX0_ways_3 12 rfl rfl)
theorem dX0_ways_84 : decode cX0_ways 84 = .ok (.invokevirtual 232, 3) := dk_182 0 232 (dk_at dksX0_ways_3 13 rfl rfl)
theorem dX0_ways_87 : decode cX0_ways 87 = .ok (.goto 4, 3) := dk_167 0 4 (dk_at dksX0_ways_3 16 rfl rfl)
theorem dX0_ways_90 : decode cX0_ways 90 = .ok (.iconst 0, 1) := dk_3 (dk_at dksX0_ways_3 19 rfl rfl)
theorem dX0_ways_91 : decode cX0_ways 91 = .ok (.iadd, 1) := dk_96 (dk_at dksX0_ways_3 20 rfl rfl)
theorem dX0_ways_92 : decode cX0_ways 92 = .ok (.istore_n 3, 1) := dk_62 (dk_at dksX0_ways_3 21 rfl rfl)
theorem dX0_ways_93 : decode cX0_ways 93 = .ok (.iinc 4 1, 3) := dk_132 4 1 (dk_at dksX0_ways_4 0 rfl rfl)
theorem dX0_ways_96 : decode cX0_ways 96 = .ok (.goto (-78), 3) := dk_167 255 178 (dk_at dksX0_ways_4 3 rfl rfl)
theorem dX0_ways_99 : decode cX0_ways 99 = .ok (.iload_n 3, 1) := dk_29 (dk_at dksX0_ways_4 6 rfl rfl)
theorem dX0_ways_100 : decode cX0_ways 100 = .ok (.ireturn, 1) := dk_172 (dk_at dksX0_ways_4 7 rfl rfl)
abbrev cX0_common : ByteArray := prog_1_method_35_code
def yX0_common : MethodName := ⟨RX0, "common", "(II)I"⟩
def dkwX0_common_0 : List UInt8 := [27, 154, 0, 7, 26, 167, 0, 10, 27, 26, 27, 112, 184, 0, 235, 172]
abbrev dktX0_common_0 : List UInt8 := dkwX0_common_0 ++ []
theorem dksX0_common_0 : cX0_common.data.toList.drop 0 = dktX0_common_0 := by decide +kernel
theorem dX0_common_0 : decode cX0_common 0 = .ok (.iload_n 1, 1) := dk_27 (dk_at dksX0_common_0 0 rfl rfl)
theorem dX0_common_1 : decode cX0_common 1 = .ok (.ifCond .ne 7, 3) := dk_154 0 7 (dk_at dksX0_common_0 1 rfl rfl)
theorem dX0_common_4 : decode cX0_common 4 = .ok (.iload_n 0, 1) := dk_26 (dk_at dksX0_common_0 4 rfl rfl)
theorem dX0_common_5 : decode cX0_common 5 = .ok (.goto 10, 3) := dk_167 0 10 (dk_at dksX0_common_0 5 rfl rfl)
theorem dX0_common_8 : decode cX0_common 8 = .ok (.iload_n 1, 1) := dk_27 (dk_at dksX0_common_0 8 rfl rfl)
theorem dX0_common_9 : decode cX0_common 9 = .ok (.iload_n 0, 1) := dk_26 (dk_at dksX0_common_0 9 rfl rfl)
theorem dX0_common_10 : decode cX0_common 10 = .ok (.iload_n 1, 1) := dk_27 (dk_at dksX0_common_0 10 rfl rfl)
theorem dX0_common_11 : decode cX0_common 11 = .ok (.irem, 1) := dk_112 (dk_at dksX0_common_0 11 rfl rfl)
theorem dX0_common_12 : decode cX0_common 12 = .ok (.invokestatic 235, 3) := dk_184 0 235 (dk_at dksX0_common_0 12 rfl rfl)
theorem dX0_common_15 : decode cX0_common 15 = .ok (.ireturn, 1) := dk_172 (dk_at dksX0_common_0 15 rfl rfl)
abbrev cX0_rate : ByteArray := prog_1_method_37_code
def yX0_rate : MethodName := ⟨RX0, "rate", "(II)I"⟩
def dkwX0_rate_1 : List UInt8 := [182, 0, 238, 167, 0, 5, 18, 241, 172]
abbrev dktX0_rate_1 : List UInt8 := dkwX0_rate_1 ++ []
def dkwX0_rate_0 : List UInt8 := [27, 3, 8, 184, 0, 101, 153, 0, 24, 42, 28, 182, 0, 141, 153, 0, 16, 42, 180, 0, 94, 27, 50, 28]
abbrev dktX0_rate_0 : List UInt8 := dkwX0_rate_0 ++ dktX0_rate_1
theorem dksX0_rate_0 : cX0_rate.data.toList.drop 0 = dktX0_rate_0 := by decide +kernel
theorem dksX0_rate_1 : cX0_rate.data.toList.drop 24 = dktX0_rate_1 := dk_seg dksX0_rate_0 24 rfl rfl
theorem dX0_rate_0 : decode cX0_rate 0 = .ok (.iload_n 1, 1) := dk_27 (dk_at dksX0_rate_0 0 rfl rfl)
theorem dX0_rate_1 : decode cX0_rate 1 = .ok (.iconst 0, 1) := dk_3 (dk_at dksX0_rate_0 1 rfl rfl)
theorem dX0_rate_2 : decode cX0_rate 2 = .ok (.iconst 5, 1) := dk_8 (dk_at dksX0_rate_0 2 rfl rfl)
theorem dX0_rate_3 : decode cX0_rate 3 = .ok (.invokestatic 101, 3) := dk_184 0 101 (dk_at dksX0_rate_0 3 rfl rfl)
theorem dX0_rate_6 : decode cX0_rate 6 = .ok (.ifCond .eq 24, 3) := dk_153 0 24 (dk_at dksX0_rate_0 6 rfl rfl)
theorem dX0_rate_9 : decode cX0_rate 9 = .ok (.aload_n 0, 1) := dk_42 (dk_at dksX0_rate_0 9 rfl rfl)
theorem dX0_rate_10 : decode cX0_rate 10 = .ok (.iload_n 2, 1) := dk_28 (dk_at dksX0_rate_0 10 rfl rfl)
theorem dX0_rate_11 : decode cX0_rate 11 = .ok (.invokevirtual 141, 3) := dk_182 0 141 (dk_at dksX0_rate_0 11 rfl rfl)
theorem dX0_rate_14 : decode cX0_rate 14 = .ok (.ifCond .eq 16, 3) := dk_153 0 16 (dk_at dksX0_rate_0 14 rfl rfl)
theorem dX0_rate_17 : decode cX0_rate 17 = .ok (.aload_n 0, 1) := dk_42 (dk_at dksX0_rate_0 17 rfl rfl)
theorem dX0_rate_18 : decode cX0_rate 18 = .ok (.getfield 94, 3) := dk_180 0 94 (dk_at dksX0_rate_0 18 rfl rfl)
theorem dX0_rate_21 : decode cX0_rate 21 = .ok (.iload_n 1, 1) := dk_27 (dk_at dksX0_rate_0 21 rfl rfl)
theorem dX0_rate_22 : decode cX0_rate 22 = .ok (.aaload, 1) := dk_50 (dk_at dksX0_rate_0 22 rfl rfl)
theorem dX0_rate_23 : decode cX0_rate 23 = .ok (.iload_n 2, 1) := dk_28 (dk_at dksX0_rate_0 23 rfl rfl)
theorem dX0_rate_24 : decode cX0_rate 24 = .ok (.invokevirtual 238, 3) := dk_182 0 238 (dk_at dksX0_rate_1 0 rfl rfl)
theorem dX0_rate_27 : decode cX0_rate 27 = .ok (.goto 5, 3) := dk_167 0 5 (dk_at dksX0_rate_1 3 rfl rfl)
theorem dX0_rate_30 : decode cX0_rate 30 = .ok (.ldc 241, 2) := dk_18 241 (dk_at dksX0_rate_1 6 rfl rfl)
theorem dX0_rate_32 : decode cX0_rate 32 = .ok (.ireturn, 1) := dk_172 (dk_at dksX0_rate_1 8 rfl rfl)
abbrev cX0_keep : ByteArray := prog_1_method_38_code
def yX0_keep : MethodName := ⟨RX0, "keep", "(I)I"⟩
def dkwX0_keep_1 : List UInt8 := [42, 180, 0, 56, 27, 4, 84, 42, 180, 0, 38, 180, 0, 182, 172]
abbrev dktX0_keep_1 : List UInt8 := dkwX0_keep_1 ++ []
def dkwX0_keep_0 : List UInt8 := [27, 3, 4, 184, 0, 101, 154, 0, 5, 2, 172, 42, 180, 0, 53, 27, 50, 42, 180, 0, 38, 182, 0, 197]
abbrev dktX0_keep_0 : List UInt8 := dkwX0_keep_0 ++ dktX0_keep_1
theorem dksX0_keep_0 : cX0_keep.data.toList.drop 0 = dktX0_keep_0 := by decide +kernel
theorem dksX0_keep_1 : cX0_keep.data.toList.drop 24 = dktX0_keep_1 := dk_seg dksX0_keep_0 24 rfl rfl
theorem dX0_keep_0 : decode cX0_keep 0 = .ok (.iload_n 1, 1) := dk_27 (dk_at dksX0_keep_0 0 rfl rfl)
theorem dX0_keep_1 : decode cX0_keep 1 = .ok (.iconst 0, 1) := dk_3 (dk_at dksX0_keep_0 1 rfl rfl)
theorem dX0_keep_2 : decode cX0_keep 2 = .ok (.iconst 1, 1) := dk_4 (dk_at dksX0_keep_0 2 rfl rfl)
theorem dX0_keep_3 : decode cX0_keep 3 = .ok (.invokestatic 101, 3) := dk_184 0 101 (dk_at dksX0_keep_0 3 rfl rfl)
theorem dX0_keep_6 : decode cX0_keep 6 = .ok (.ifCond .ne 5, 3) := dk_154 0 5 (dk_at dksX0_keep_0 6 rfl rfl)
theorem dX0_keep_9 : decode cX0_keep 9 = .ok (.iconst (-1), 1) := dk_2 (dk_at dksX0_keep_0 9 rfl rfl)
theorem dX0_keep_10 : decode cX0_keep 10 = .ok (.ireturn, 1) := dk_172 (dk_at dksX0_keep_0 10 rfl rfl)
theorem dX0_keep_11 : decode cX0_keep 11 = .ok (.aload_n 0, 1) := dk_42 (dk_at dksX0_keep_0 11 rfl rfl)
theorem dX0_keep_12 : decode cX0_keep 12 = .ok (.getfield 53, 3) := dk_180 0 53 (dk_at dksX0_keep_0 12 rfl rfl)
theorem dX0_keep_15 : decode cX0_keep 15 = .ok (.iload_n 1, 1) := dk_27 (dk_at dksX0_keep_0 15 rfl rfl)
theorem dX0_keep_16 : decode cX0_keep 16 = .ok (.aaload, 1) := dk_50 (dk_at dksX0_keep_0 16 rfl rfl)
theorem dX0_keep_17 : decode cX0_keep 17 = .ok (.aload_n 0, 1) := dk_42 (dk_at dksX0_keep_0 17 rfl rfl)
theorem dX0_keep_18 : decode cX0_keep 18 = .ok (.getfield 38, 3) := dk_180 0 38 (dk_at dksX0_keep_0 18 rfl rfl)
theorem dX0_keep_21 : decode cX0_keep 21 = .ok (.invokevirtual 197, 3) := dk_182 0 197 (dk_at dksX0_keep_0 21 rfl rfl)
theorem dX0_keep_24 : decode cX0_keep 24 = .ok (.aload_n 0, 1) := dk_42 (dk_at dksX0_keep_1 0 rfl rfl)
theorem dX0_keep_25 : decode cX0_keep 25 = .ok (.getfield 56, 3) := dk_180 0 56 (dk_at dksX0_keep_1 1 rfl rfl)
theorem dX0_keep_28 : decode cX0_keep 28 = .ok (.iload_n 1, 1) := dk_27 (dk_at dksX0_keep_1 4 rfl rfl)
theorem dX0_keep_29 : decode cX0_keep 29 = .ok (.iconst 1, 1) := dk_4 (dk_at dksX0_keep_1 5 rfl rfl)
theorem dX0_keep_30 : decode cX0_keep 30 = .ok (.bastore, 1) := dk_84 (dk_at dksX0_keep_1 6 rfl rfl)
theorem dX0_keep_31 : decode cX0_keep 31 = .ok (.aload_n 0, 1) := dk_42 (dk_at dksX0_keep_1 7 rfl rfl)
theorem dX0_keep_32 : decode cX0_keep 32 = .ok (.getfield 38, 3) := dk_180 0 38 (dk_at dksX0_keep_1 8 rfl rfl)
theorem dX0_keep_35 : decode cX0_keep 35 = .ok (.getfield 182, 3) := dk_180 0 182 (dk_at dksX0_keep_1 11 rfl rfl)
theorem dX0_keep_38 : decode cX0_keep 38 = .ok (.ireturn, 1) := dk_172 (dk_at dksX0_keep_1 14 rfl rfl)
abbrev cX0_back : ByteArray := prog_1_method_39_code
def yX0_back : MethodName := ⟨RX0, "back", "(I)I"⟩
def dkwX0_back_2 : List UInt8 := [172]
abbrev dktX0_back_2 : List UInt8 := dkwX0_back_2 ++ []
def dkwX0_back_1 : List UInt8 := [180, 0, 38, 42, 180, 0, 53, 27, 50, 182, 0, 197, 42, 3, 181, 0, 120, 42, 180, 0, 38, 180, 0, 182]
abbrev dktX0_back_1 : List UInt8 := dkwX0_back_1 ++ dktX0_back_2
def dkwX0_back_0 : List UInt8 := [27, 3, 4, 184, 0, 101, 154, 0, 5, 2, 172, 42, 180, 0, 56, 27, 51, 154, 0, 6, 16, 254, 172, 42]
abbrev dktX0_back_0 : List UInt8 := dkwX0_back_0 ++ dktX0_back_1
theorem dksX0_back_0 : cX0_back.data.toList.drop 0 = dktX0_back_0 := by decide +kernel
theorem dksX0_back_1 : cX0_back.data.toList.drop 24 = dktX0_back_1 := dk_seg dksX0_back_0 24 rfl rfl
theorem dksX0_back_2 : cX0_back.data.toList.drop 48 = dktX0_back_2 := dk_seg dksX0_back_1 24 rfl rfl
theorem dX0_back_0 : decode cX0_back 0 = .ok (.iload_n 1, 1) := dk_27 (dk_at dksX0_back_0 0 rfl rfl)
theorem dX0_back_1 : decode cX0_back 1 = .ok (.iconst 0, 1) := dk_3 (dk_at dksX0_back_0 1 rfl rfl)
theorem dX0_back_2 : decode cX0_back 2 = .ok (.iconst 1, 1) := dk_4 (dk_at dksX0_back_0 2 rfl rfl)
theorem dX0_back_3 : decode cX0_back 3 = .ok (.invokestatic 101, 3) := dk_184 0 101 (dk_at dksX0_back_0 3 rfl rfl)
theorem dX0_back_6 : decode cX0_back 6 = .ok (.ifCond .ne 5, 3) := dk_154 0 5 (dk_at dksX0_back_0 6 rfl rfl)
theorem dX0_back_9 : decode cX0_back 9 = .ok (.iconst (-1), 1) := dk_2 (dk_at dksX0_back_0 9 rfl rfl)
theorem dX0_back_10 : decode cX0_back 10 = .ok (.ireturn, 1) := dk_172 (dk_at dksX0_back_0 10 rfl rfl)
theorem dX0_back_11 : decode cX0_back 11 = .ok (.aload_n 0, 1) := dk_42 (dk_at dksX0_back_0 11 rfl rfl)
theorem dX0_back_12 : decode cX0_back 12 = .ok (.getfield 56, 3) := dk_180 0 56 (dk_at dksX0_back_0 12 rfl rfl)
theorem dX0_back_15 : decode cX0_back 15 = .ok (.iload_n 1, 1) := dk_27 (dk_at dksX0_back_0 15 rfl rfl)
theorem dX0_back_16 : decode cX0_back 16 = .ok (.baload, 1) := dk_51 (dk_at dksX0_back_0 16 rfl rfl)
theorem dX0_back_17 : decode cX0_back 17 = .ok (.ifCond .ne 6, 3) := dk_154 0 6 (dk_at dksX0_back_0 17 rfl rfl)
theorem dX0_back_20 : decode cX0_back 20 = .ok (.bipush (-2), 2) := dk_16 254 (dk_at dksX0_back_0 20 rfl rfl)
theorem dX0_back_22 : decode cX0_back 22 = .ok (.ireturn, 1) := dk_172 (dk_at dksX0_back_0 22 rfl rfl)
theorem dX0_back_23 : decode cX0_back 23 = .ok (.aload_n 0, 1) := dk_42 (dk_at dksX0_back_0 23 rfl rfl)
theorem dX0_back_24 : decode cX0_back 24 = .ok (.getfield 38, 3) := dk_180 0 38 (dk_at dksX0_back_1 0 rfl rfl)
theorem dX0_back_27 : decode cX0_back 27 = .ok (.aload_n 0, 1) := dk_42 (dk_at dksX0_back_1 3 rfl rfl)
theorem dX0_back_28 : decode cX0_back 28 = .ok (.getfield 53, 3) := dk_180 0 53 (dk_at dksX0_back_1 4 rfl rfl)
theorem dX0_back_31 : decode cX0_back 31 = .ok (.iload_n 1, 1) := dk_27 (dk_at dksX0_back_1 7 rfl rfl)
theorem dX0_back_32 : decode cX0_back 32 = .ok (.aaload, 1) := dk_50 (dk_at dksX0_back_1 8 rfl rfl)
theorem dX0_back_33 : decode cX0_back 33 = .ok (.invokevirtual 197, 3) := dk_182 0 197 (dk_at dksX0_back_1 9 rfl rfl)
theorem dX0_back_36 : decode cX0_back 36 = .ok (.aload_n 0, 1) := dk_42 (dk_at dksX0_back_1 12 rfl rfl)
theorem dX0_back_37 : decode cX0_back 37 = .ok (.iconst 0, 1) := dk_3 (dk_at dksX0_back_1 13 rfl rfl)
theorem dX0_back_38 : decode cX0_back 38 = .ok (.putfield 120, 3) := dk_181 0 120 (dk_at dksX0_back_1 14 rfl rfl)
theorem dX0_back_41 : decode cX0_back 41 = .ok (.aload_n 0, 1) := dk_42 (dk_at dksX0_back_1 17 rfl rfl)
theorem dX0_back_42 : decode cX0_back 42 = .ok (.getfield 38, 3) := dk_180 0 38 (dk_at dksX0_back_1 18 rfl rfl)
theorem dX0_back_45 : decode cX0_back 45 = .ok (.getfield 182, 3) := dk_180 0 182 (dk_at dksX0_back_1 21 rfl rfl)
theorem dX0_back_48 : decode cX0_back 48 = .ok (.ireturn, 1) := dk_172 (dk_at dksX0_back_2 0 rfl rfl)
abbrev cX0_count : ByteArray := prog_1_method_40_code
def yX0_count : MethodName := ⟨RX0, "count", "(I)I"⟩
def dkwX0_count_3 : List UInt8 := [42, 180, 0, 123, 172, 42, 180, 0, 105, 172, 2, 172]
abbrev dktX0_count_3 : List UInt8 := dkwX0_count_3 ++ []
def dkwX0_count_2 : List UInt8 := [42, 180, 0, 1, 180, 0, 7, 172, 42, 180, 0, 1, 182, 0, 242, 172, 42, 180, 0, 1, 180, 0, 167, 172]
abbrev dktX0_count_2 : List UInt8 := dkwX0_count_2 ++ dktX0_count_3
def dkwX0_count_1 : List UInt8 := [170, 0, 0, 0, 0, 0, 69, 0, 0, 0, 0, 0, 0, 0, 4, 0, 0, 0, 35, 0, 0, 0, 43, 0, 0, 0, 51, 0, 0, 0, 59, 0, 0, 0, 64]
abbrev dktX0_count_1 : List UInt8 := dkwX0_count_1 ++ dktX0_count_2
def dkwX0_count_0 : List UInt8 := [27]
abbrev dktX0_count_0 : List UInt8 := dkwX0_count_0 ++ dktX0_count_1
theorem dksX0_count_0 : cX0_count.data.toList.drop 0 = dktX0_count_0 := by decide +kernel
theorem dksX0_count_1 : cX0_count.data.toList.drop 1 = dktX0_count_1 := dk_seg dksX0_count_0 1 rfl rfl
theorem dksX0_count_2 : cX0_count.data.toList.drop 36 = dktX0_count_2 := dk_seg dksX0_count_1 35 rfl rfl
theorem dksX0_count_3 : cX0_count.data.toList.drop 60 = dktX0_count_3 := dk_seg dksX0_count_2 24 rfl rfl
theorem dX0_count_0 : decode cX0_count 0 = .ok (.iload_n 1, 1) := dk_27 (dk_at dksX0_count_0 0 rfl rfl)
theorem dX0_count_1 : decode cX0_count 1 = .ok (.tableswitch 69 0 4 #[35, 43, 51, 59, 64], 35) := by decide +kernel
theorem dX0_count_36 : decode cX0_count 36 = .ok (.aload_n 0, 1) := dk_42 (dk_at dksX0_count_2 0 rfl rfl)
theorem dX0_count_37 : decode cX0_count 37 = .ok (.getfield 1, 3) := dk_180 0 1 (dk_at dksX0_count_2 1 rfl rfl)
theorem dX0_count_40 : decode cX0_count 40 = .ok (.getfield 7, 3) := dk_180 0 7 (dk_at dksX0_count_2 4 rfl rfl)
theorem dX0_count_43 : decode cX0_count 43 = .ok (.ireturn, 1) := dk_172 (dk_at dksX0_count_2 7 rfl rfl)
theorem dX0_count_44 : decode cX0_count 44 = .ok (.aload_n 0, 1) := dk_42 (dk_at dksX0_count_2 8 rfl rfl)
theorem dX0_count_45 : decode cX0_count 45 = .ok (.getfield 1, 3) := dk_180 0 1 (dk_at dksX0_count_2 9 rfl rfl)
theorem dX0_count_48 : decode cX0_count 48 = .ok (.invokevirtual 242, 3) := dk_182 0 242 (dk_at dksX0_count_2 12 rfl rfl)
theorem dX0_count_51 : decode cX0_count 51 = .ok (.ireturn, 1) := dk_172 (dk_at dksX0_count_2 15 rfl rfl)
theorem dX0_count_52 : decode cX0_count 52 = .ok (.aload_n 0, 1) := dk_42 (dk_at dksX0_count_2 16 rfl rfl)
theorem dX0_count_53 : decode cX0_count 53 = .ok (.getfield 1, 3) := dk_180 0 1 (dk_at dksX0_count_2 17 rfl rfl)
theorem dX0_count_56 : decode cX0_count 56 = .ok (.getfield 167, 3) := dk_180 0 167 (dk_at dksX0_count_2 20 rfl rfl)
theorem dX0_count_59 : decode cX0_count 59 = .ok (.ireturn, 1) := dk_172 (dk_at dksX0_count_2 23 rfl rfl)
theorem dX0_count_60 : decode cX0_count 60 = .ok (.aload_n 0, 1) := dk_42 (dk_at dksX0_count_3 0 rfl rfl)
theorem dX0_count_61 : decode cX0_count 61 = .ok (.getfield 123, 3) := dk_180 0 123 (dk_at dksX0_count_3 1 rfl rfl)
theorem dX0_count_64 : decode cX0_count 64 = .ok (.ireturn, 1) := dk_172 (dk_at dksX0_count_3 4 rfl rfl)
theorem dX0_count_65 : decode cX0_count 65 = .ok (.aload_n 0, 1) := dk_42 (dk_at dksX0_count_3 5 rfl rfl)
theorem dX0_count_66 : decode cX0_count 66 = .ok (.getfield 105, 3) := dk_180 0 105 (dk_at dksX0_count_3 6 rfl rfl)
theorem dX0_count_69 : decode cX0_count 69 = .ok (.ireturn, 1) := dk_172 (dk_at dksX0_count_3 9 rfl rfl)
theorem dX0_count_70 : decode cX0_count 70 = .ok (.iconst (-1), 1) := dk_2 (dk_at dksX0_count_3 10 rfl rfl)
theorem dX0_count_71 : decode cX0_count 71 = .ok (.ireturn, 1) := dk_172 (dk_at dksX0_count_3 11 rfl rfl)
abbrev cX0_trace : ByteArray := prog_1_method_41_code
def yX0_trace : MethodName := ⟨RX0, "trace", "()J"⟩
theorem dX0_trace_0 : decode cX0_trace 0 = .ok (.aload_n 0, 1) := by decide +kernel
theorem dX0_trace_1 : decode cX0_trace 1 = .ok (.getfield 245, 3) := by decide +kernel
theorem dX0_trace_4 : decode cX0_trace 4 = .ok (.lreturn, 1) := by decide +kernel
theorem q39 : (Jvm.Cond.initialized "BellLots") ∈ lw_all := lw_g (lw_at lw_m1 1 rfl) rfl
theorem q63 : (Jvm.Cond.instantiable "BellLots" (19 : Nat)) ∈ lw_all := lw_g (lw_at lw_m1 25 rfl) rfl
theorem q65 : (Jvm.Cond.instanceMethod ({ cls := "BellLots", name := "<init>", desc := "()V" } : Jvm.MethodName)) ∈ lw_all := lw_g (lw_at lw_m1 27 rfl) rfl
theorem q66 : (Jvm.Cond.code ({ cls := "BellLots", name := "<init>", desc := "()V" } : Jvm.MethodName) prog_1_method_4_code (1 : Nat) (Option.none : Option Jvm.ClassFile.FieldType)) ∈ lw_all := lw_g (lw_at lw_m1 28 rfl) rfl
theorem q67 : (Jvm.Cond.methodLink "BellLots" (29 : Nat) ({ cls := "java/lang/Object", name := "<init>", desc := "()V" } : Jvm.MethodName)) ∈ lw_all := lw_g (lw_at lw_m1 29 rfl) rfl
theorem q70 : (Jvm.Cond.classLink "BellLots" (8 : Nat) "BellLots$Book") ∈ lw_all := lw_g (lw_at lw_m1 32 rfl) rfl
theorem q72 : (Jvm.Cond.methodLinkNest "BellLots" (34 : Nat) ({ cls := "BellLots$Book", name := "<init>", desc := "()V" } : Jvm.MethodName) "BellLots") ∈ lw_tbl := lw_at lw_m1 34 rfl
theorem q85 : (Jvm.Cond.fieldLinkNest "BellLots" (138 : Nat) "BellLots$Book" "weight" "[I" "BellLots") ∈ lw_tbl := lw_at lw_m1 47 rfl
theorem q90 : (Jvm.Cond.fieldLinkNest "BellLots" (156 : Nat) "BellLots$Book" "note" "[I" "BellLots") ∈ lw_tbl := lw_at lw_m1 52 rfl
theorem q95 : (Jvm.Cond.fieldLinkNest "BellLots" (162 : Nat) "BellLots$Book" "far" "[[I" "BellLots") ∈ lw_tbl := lw_at lw_m1 57 rfl
theorem q99 : (Jvm.Cond.fieldLinkNest "BellLots" (170 : Nat) "BellLots$Book" "oathBell" "[I" "BellLots") ∈ lw_tbl := lw_at lw_m1 61 rfl
theorem q103 : (Jvm.Cond.fieldLinkNest "BellLots" (173 : Nat) "BellLots$Book" "oathTown" "[I" "BellLots") ∈ lw_tbl := lw_at lw_m1 65 rfl
theorem q107 : (Jvm.Cond.fieldLinkNest "BellLots" (176 : Nat) "BellLots$Book" "oathTerm" "[I" "BellLots") ∈ lw_tbl := lw_at lw_m1 69 rfl
theorem q108 : (Jvm.Cond.fieldLinkNest "BellLots" (7 : Nat) "BellLots$Book" "towns" "I" "BellLots") ∈ lw_tbl := lw_at lw_m1 70 rfl
theorem q113 : (Jvm.Cond.fieldLinkNest "BellLots" (167 : Nat) "BellLots$Book" "oaths" "I" "BellLots") ∈ lw_tbl := lw_at lw_m1 75 rfl
theorem q114 : (Jvm.Cond.fieldLinkNest "BellLots" (132 : Nat) "BellLots$Book" "items" "I" "BellLots") ∈ lw_tbl := lw_at lw_m1 76 rfl
theorem q140 : (Jvm.Cond.classLink "BellLots" (23 : Nat) "BellLots$Plain") ∈ lw_all := lw_g (lw_at lw_m1 102 rfl) rfl
theorem q142 : (Jvm.Cond.methodLinkNest "BellLots" (25 : Nat) ({ cls := "BellLots$Plain", name := "<init>", desc := "(LBellLots;)V" } : Jvm.MethodName) "BellLots") ∈ lw_tbl := lw_at lw_m1 104 rfl
theorem q149 : (Jvm.Cond.fieldLinkNest "BellLots" (182 : Nat) "BellLots$Plain" "term" "I" "BellLots") ∈ lw_tbl := lw_at lw_m1 111 rfl
theorem q151 : (Jvm.Cond.fieldLinkNest "BellLots" (185 : Nat) "BellLots$Plain" "cuts" "I" "BellLots") ∈ lw_tbl := lw_at lw_m1 113 rfl
theorem q153 : (Jvm.Cond.fieldLinkNest "BellLots" (145 : Nat) "BellLots$Plain" "bell" "[I" "BellLots") ∈ lw_tbl := lw_at lw_m1 115 rfl
theorem q156 : (Jvm.Cond.fieldLinkNest "BellLots" (135 : Nat) "BellLots$Plain" "bears" "[I" "BellLots") ∈ lw_tbl := lw_at lw_m1 118 rfl
theorem q158 : (Jvm.Cond.fieldLinkNest "BellLots" (179 : Nat) "BellLots$Plain" "oath" "[I" "BellLots") ∈ lw_tbl := lw_at lw_m1 120 rfl
theorem q160 : (Jvm.Cond.fieldLinkNest "BellLots" (229 : Nat) "BellLots$Plain" "strokes" "[[I" "BellLots") ∈ lw_tbl := lw_at lw_m1 122 rfl
theorem q177 : (Jvm.Cond.methodLink "BellLots" (45 : Nat) ({ cls := "BellLots", name := "plains", desc := "(I)[LBellLots$Plain;" } : Jvm.MethodName)) ∈ lw_all := lw_g (lw_at lw_m1 139 rfl) rfl
theorem q178 : (Jvm.Cond.privateMethod ({ cls := "BellLots", name := "plains", desc := "(I)[LBellLots$Plain;" } : Jvm.MethodName)) ∈ lw_tbl := lw_at lw_m1 140 rfl
theorem q179 : (Jvm.Cond.instanceMethod ({ cls := "BellLots", name := "plains", desc := "(I)[LBellLots$Plain;" } : Jvm.MethodName)) ∈ lw_all := lw_g (lw_at lw_m1 141 rfl) rfl
theorem q180 : (Jvm.Cond.code ({ cls := "BellLots", name := "plains", desc := "(I)[LBellLots$Plain;" } : Jvm.MethodName) prog_1_method_3_code (4 : Nat) (Option.some (Jvm.ClassFile.FieldType.array (Jvm.ClassFile.FieldType.object "BellLots$Plain")))) ∈ lw_all := lw_g (lw_at lw_m1 142 rfl) rfl
theorem q182 : (Jvm.Cond.classLink "BellLots" (76 : Nat) "BellLots$Bell") ∈ lw_all := lw_g (lw_at lw_m1 144 rfl) rfl
theorem q185 : (Jvm.Cond.methodLinkNest "BellLots" (78 : Nat) ({ cls := "BellLots$Bell", name := "<init>", desc := "(LBellLots;)V" } : Jvm.MethodName) "BellLots") ∈ lw_tbl := lw_at lw_m1 147 rfl
theorem q195 : (Jvm.Cond.classLink "BellLots" (79 : Nat) "BellLots$Great") ∈ lw_all := lw_g (lw_at lw_m1 157 rfl) rfl
theorem q197 : (Jvm.Cond.methodLinkNest "BellLots" (81 : Nat) ({ cls := "BellLots$Great", name := "<init>", desc := "(LBellLots;)V" } : Jvm.MethodName) "BellLots") ∈ lw_tbl := lw_at lw_m1 159 rfl
theorem q206 : (Jvm.Cond.classLink "BellLots" (82 : Nat) "BellLots$Cracked") ∈ lw_all := lw_g (lw_at lw_m1 168 rfl) rfl
theorem q208 : (Jvm.Cond.methodLinkNest "BellLots" (84 : Nat) ({ cls := "BellLots$Cracked", name := "<init>", desc := "(LBellLots;)V" } : Jvm.MethodName) "BellLots") ∈ lw_tbl := lw_at lw_m1 170 rfl
theorem q217 : (Jvm.Cond.classLink "BellLots" (85 : Nat) "BellLots$Storm") ∈ lw_all := lw_g (lw_at lw_m1 179 rfl) rfl
theorem q219 : (Jvm.Cond.methodLinkNest "BellLots" (87 : Nat) ({ cls := "BellLots$Storm", name := "<init>", desc := "(LBellLots;)V" } : Jvm.MethodName) "BellLots") ∈ lw_tbl := lw_at lw_m1 181 rfl
theorem q229 : (Jvm.Cond.classLink "BellLots" (88 : Nat) "BellLots$River") ∈ lw_all := lw_g (lw_at lw_m1 191 rfl) rfl
theorem q231 : (Jvm.Cond.methodLinkNest "BellLots" (90 : Nat) ({ cls := "BellLots$River", name := "<init>", desc := "(LBellLots;)V" } : Jvm.MethodName) "BellLots") ∈ lw_tbl := lw_at lw_m1 193 rfl
theorem q241 : (Jvm.Cond.classLink "BellLots" (91 : Nat) "BellLots$Cow") ∈ lw_all := lw_g (lw_at lw_m1 203 rfl) rfl
theorem q243 : (Jvm.Cond.methodLinkNest "BellLots" (93 : Nat) ({ cls := "BellLots$Cow", name := "<init>", desc := "(LBellLots;)V" } : Jvm.MethodName) "BellLots") ∈ lw_tbl := lw_at lw_m1 205 rfl
theorem q252 : (Jvm.Cond.methodLink "BellLots" (98 : Nat) ({ cls := "BellLots$Plain", name := "begin", desc := "()V" } : Jvm.MethodName)) ∈ lw_all := lw_g (lw_at lw_m1 214 rfl) rfl
theorem q262 : (Jvm.Cond.fieldLink "BellLots" (1 : Nat) "BellLots" "book" "LBellLots$Book;") ∈ lw_all := lw_g (lw_at lw_m1 224 rfl) rfl
theorem q266 : (Jvm.Cond.fieldLink "BellLots" (35 : Nat) "BellLots" "moved" "[I") ∈ lw_all := lw_g (lw_at lw_m1 228 rfl) rfl
theorem q268 : (Jvm.Cond.fieldLink "BellLots" (19 : Nat) "BellLots" "lot" "[I") ∈ lw_all := lw_g (lw_at lw_m1 230 rfl) rfl
theorem q272 : (Jvm.Cond.fieldLink "BellLots" (38 : Nat) "BellLots" "now" "LBellLots$Plain;") ∈ lw_all := lw_g (lw_at lw_m1 234 rfl) rfl
theorem q273 : (Jvm.Cond.fieldLink "BellLots" (42 : Nat) "BellLots" "tried" "LBellLots$Plain;") ∈ lw_all := lw_g (lw_at lw_m1 235 rfl) rfl
theorem q274 : (Jvm.Cond.fieldLink "BellLots" (49 : Nat) "BellLots" "before" "[LBellLots$Plain;") ∈ lw_all := lw_g (lw_at lw_m1 236 rfl) rfl
theorem q275 : (Jvm.Cond.fieldLink "BellLots" (120 : Nat) "BellLots" "deeds" "I") ∈ lw_all := lw_g (lw_at lw_m1 237 rfl) rfl
theorem q276 : (Jvm.Cond.fieldLink "BellLots" (53 : Nat) "BellLots" "images" "[LBellLots$Plain;") ∈ lw_all := lw_g (lw_at lw_m1 238 rfl) rfl
theorem q277 : (Jvm.Cond.fieldLink "BellLots" (56 : Nat) "BellLots" "isKept" "[Z") ∈ lw_all := lw_g (lw_at lw_m1 239 rfl) rfl
theorem q279 : (Jvm.Cond.fieldLink "BellLots" (60 : Nat) "BellLots" "text" "[B") ∈ lw_all := lw_g (lw_at lw_m2 1 rfl) rfl
theorem q281 : (Jvm.Cond.fieldLink "BellLots" (105 : Nat) "BellLots" "typed" "I") ∈ lw_all := lw_g (lw_at lw_m2 3 rfl) rfl
theorem q282 : (Jvm.Cond.fieldLink "BellLots" (218 : Nat) "BellLots" "least" "I") ∈ lw_all := lw_g (lw_at lw_m2 4 rfl) rfl
theorem q283 : (Jvm.Cond.fieldLink "BellLots" (64 : Nat) "BellLots" "going" "[I") ∈ lw_all := lw_g (lw_at lw_m2 5 rfl) rfl
theorem q284 : (Jvm.Cond.fieldLink "BellLots" (67 : Nat) "BellLots" "best" "[I") ∈ lw_all := lw_g (lw_at lw_m2 6 rfl) rfl
theorem q285 : (Jvm.Cond.fieldLink "BellLots" (70 : Nat) "BellLots" "factBell" "[I") ∈ lw_all := lw_g (lw_at lw_m2 7 rfl) rfl
theorem q286 : (Jvm.Cond.fieldLink "BellLots" (73 : Nat) "BellLots" "factTown" "[I") ∈ lw_all := lw_g (lw_at lw_m2 8 rfl) rfl
theorem q287 : (Jvm.Cond.fieldLink "BellLots" (123 : Nat) "BellLots" "facts" "I") ∈ lw_all := lw_g (lw_at lw_m2 9 rfl) rfl
theorem q294 : (Jvm.Cond.fieldLink "BellLots" (245 : Nat) "BellLots" "trace" "J") ∈ lw_all := lw_g (lw_at lw_m2 16 rfl) rfl
theorem q295 : (Jvm.Cond.fieldLink "BellLots" (94 : Nat) "BellLots" "kinds" "[LBellLots$Bell;") ∈ lw_all := lw_g (lw_at lw_m2 17 rfl) rfl
theorem q296 : (Jvm.Cond.lays "BellLots" "BellLots" "book" "LBellLots$Book;") ∈ lw_all := lw_g (lw_at lw_m2 18 rfl) rfl
theorem q297 : (Jvm.Cond.soleField "BellLots" "book") ∈ lw_all := lw_g (lw_at lw_m2 19 rfl) rfl
theorem q298 : (Jvm.Cond.laysFinal "BellLots" "BellLots" "moved" "[I") ∈ lw_all := lw_g (lw_at lw_m2 20 rfl) rfl
theorem q299 : (Jvm.Cond.soleField "BellLots" "moved") ∈ lw_all := lw_g (lw_at lw_m2 21 rfl) rfl
theorem q300 : (Jvm.Cond.laysFinal "BellLots" "BellLots" "lot" "[I") ∈ lw_all := lw_g (lw_at lw_m2 22 rfl) rfl
theorem q301 : (Jvm.Cond.soleField "BellLots" "lot") ∈ lw_all := lw_g (lw_at lw_m2 23 rfl) rfl
theorem q302 : (Jvm.Cond.laysFinal "BellLots" "BellLots" "now" "LBellLots$Plain;") ∈ lw_all := lw_g (lw_at lw_m2 24 rfl) rfl
theorem q303 : (Jvm.Cond.soleField "BellLots" "now") ∈ lw_all := lw_g (lw_at lw_m2 25 rfl) rfl
theorem q304 : (Jvm.Cond.laysFinal "BellLots" "BellLots" "tried" "LBellLots$Plain;") ∈ lw_all := lw_g (lw_at lw_m2 26 rfl) rfl
theorem q305 : (Jvm.Cond.soleField "BellLots" "tried") ∈ lw_all := lw_g (lw_at lw_m2 27 rfl) rfl
theorem q306 : (Jvm.Cond.laysFinal "BellLots" "BellLots" "before" "[LBellLots$Plain;") ∈ lw_all := lw_g (lw_at lw_m2 28 rfl) rfl
theorem q307 : (Jvm.Cond.soleField "BellLots" "before") ∈ lw_all := lw_g (lw_at lw_m2 29 rfl) rfl
theorem q308 : (Jvm.Cond.lays "BellLots" "BellLots" "deeds" "I") ∈ lw_all := lw_g (lw_at lw_m2 30 rfl) rfl
theorem q309 : (Jvm.Cond.soleField "BellLots" "deeds") ∈ lw_all := lw_g (lw_at lw_m2 31 rfl) rfl
theorem q310 : (Jvm.Cond.laysFinal "BellLots" "BellLots" "images" "[LBellLots$Plain;") ∈ lw_all := lw_g (lw_at lw_m2 32 rfl) rfl
theorem q311 : (Jvm.Cond.soleField "BellLots" "images") ∈ lw_all := lw_g (lw_at lw_m2 33 rfl) rfl
theorem q312 : (Jvm.Cond.laysFinal "BellLots" "BellLots" "isKept" "[Z") ∈ lw_all := lw_g (lw_at lw_m2 34 rfl) rfl
theorem q313 : (Jvm.Cond.soleField "BellLots" "isKept") ∈ lw_all := lw_g (lw_at lw_m2 35 rfl) rfl
theorem q314 : (Jvm.Cond.laysFinal "BellLots" "BellLots" "text" "[B") ∈ lw_all := lw_g (lw_at lw_m2 36 rfl) rfl
theorem q315 : (Jvm.Cond.soleField "BellLots" "text") ∈ lw_all := lw_g (lw_at lw_m2 37 rfl) rfl
theorem q316 : (Jvm.Cond.lays "BellLots" "BellLots" "typed" "I") ∈ lw_all := lw_g (lw_at lw_m2 38 rfl) rfl
theorem q317 : (Jvm.Cond.soleField "BellLots" "typed") ∈ lw_all := lw_g (lw_at lw_m2 39 rfl) rfl
theorem q318 : (Jvm.Cond.lays "BellLots" "BellLots" "least" "I") ∈ lw_all := lw_g (lw_at lw_m2 40 rfl) rfl
theorem q319 : (Jvm.Cond.soleField "BellLots" "least") ∈ lw_all := lw_g (lw_at lw_m2 41 rfl) rfl
theorem q320 : (Jvm.Cond.laysFinal "BellLots" "BellLots" "going" "[I") ∈ lw_all := lw_g (lw_at lw_m2 42 rfl) rfl
theorem q321 : (Jvm.Cond.soleField "BellLots" "going") ∈ lw_all := lw_g (lw_at lw_m2 43 rfl) rfl
theorem q322 : (Jvm.Cond.laysFinal "BellLots" "BellLots" "best" "[I") ∈ lw_all := lw_g (lw_at lw_m2 44 rfl) rfl
theorem q323 : (Jvm.Cond.soleField "BellLots" "best") ∈ lw_all := lw_g (lw_at lw_m2 45 rfl) rfl
theorem q324 : (Jvm.Cond.laysFinal "BellLots" "BellLots" "factBell" "[I") ∈ lw_all := lw_g (lw_at lw_m2 46 rfl) rfl
theorem q325 : (Jvm.Cond.soleField "BellLots" "factBell") ∈ lw_all := lw_g (lw_at lw_m2 47 rfl) rfl
theorem q326 : (Jvm.Cond.laysFinal "BellLots" "BellLots" "factTown" "[I") ∈ lw_all := lw_g (lw_at lw_m2 48 rfl) rfl
theorem q327 : (Jvm.Cond.soleField "BellLots" "factTown") ∈ lw_all := lw_g (lw_at lw_m2 49 rfl) rfl
theorem q328 : (Jvm.Cond.lays "BellLots" "BellLots" "facts" "I") ∈ lw_all := lw_g (lw_at lw_m2 50 rfl) rfl
theorem q329 : (Jvm.Cond.soleField "BellLots" "facts") ∈ lw_all := lw_g (lw_at lw_m2 51 rfl) rfl
theorem q330 : (Jvm.Cond.lays "BellLots" "BellLots" "trace" "J") ∈ lw_all := lw_g (lw_at lw_m2 52 rfl) rfl
theorem q331 : (Jvm.Cond.soleField "BellLots" "trace") ∈ lw_all := lw_g (lw_at lw_m2 53 rfl) rfl
theorem q332 : (Jvm.Cond.laysFinal "BellLots" "BellLots" "kinds" "[LBellLots$Bell;") ∈ lw_all := lw_g (lw_at lw_m2 54 rfl) rfl
theorem q333 : (Jvm.Cond.soleField "BellLots" "kinds") ∈ lw_all := lw_g (lw_at lw_m2 55 rfl) rfl
theorem q334 : (Jvm.Cond.superclass "BellLots" "java/lang/Object") ∈ lw_all := lw_g (lw_at lw_m2 56 rfl) rfl
theorem q336 : (Jvm.Cond.instanceMethod ({ cls := "BellLots", name := "type", desc := "(I)I" } : Jvm.MethodName)) ∈ lw_all := lw_g (lw_at lw_m2 58 rfl) rfl
theorem q337 : (Jvm.Cond.selects "BellLots" ({ cls := "BellLots", name := "type", desc := "(I)I" } : Jvm.MethodName) ({ cls := "BellLots", name := "type", desc := "(I)I" } : Jvm.MethodName)) ∈ lw_all := lw_g (lw_at lw_m2 59 rfl) rfl
theorem q338 : (Jvm.Cond.code ({ cls := "BellLots", name := "type", desc := "(I)I" } : Jvm.MethodName) prog_1_method_5_code (2 : Nat) (Option.some Jvm.ClassFile.FieldType.int)) ∈ lw_all := lw_g (lw_at lw_m2 60 rfl) rfl
theorem q339 : (Jvm.Cond.methodLink "BellLots" (101 : Nat) ({ cls := "BellLots", name := "in", desc := "(III)Z" } : Jvm.MethodName)) ∈ lw_all := lw_g (lw_at lw_m2 61 rfl) rfl
theorem q340 : (Jvm.Cond.static ({ cls := "BellLots", name := "in", desc := "(III)Z" } : Jvm.MethodName)) ∈ lw_all := lw_g (lw_at lw_m2 62 rfl) rfl
theorem q341 : (Jvm.Cond.code ({ cls := "BellLots", name := "in", desc := "(III)Z" } : Jvm.MethodName) prog_1_method_1_code (3 : Nat) (Option.some Jvm.ClassFile.FieldType.boolean)) ∈ lw_all := lw_g (lw_at lw_m2 63 rfl) rfl
theorem q343 : (Jvm.Cond.instanceMethod ({ cls := "BellLots", name := "clear", desc := "()I" } : Jvm.MethodName)) ∈ lw_all := lw_g (lw_at lw_m2 65 rfl) rfl
theorem q344 : (Jvm.Cond.selects "BellLots" ({ cls := "BellLots", name := "clear", desc := "()I" } : Jvm.MethodName) ({ cls := "BellLots", name := "clear", desc := "()I" } : Jvm.MethodName)) ∈ lw_all := lw_g (lw_at lw_m2 66 rfl) rfl
theorem q345 : (Jvm.Cond.code ({ cls := "BellLots", name := "clear", desc := "()I" } : Jvm.MethodName) prog_1_method_6_code (2 : Nat) (Option.some Jvm.ClassFile.FieldType.int)) ∈ lw_all := lw_g (lw_at lw_m2 67 rfl) rfl
theorem q347 : (Jvm.Cond.instanceMethod ({ cls := "BellLots", name := "plain", desc := "()I" } : Jvm.MethodName)) ∈ lw_all := lw_g (lw_at lw_m2 69 rfl) rfl
theorem q348 : (Jvm.Cond.selects "BellLots" ({ cls := "BellLots", name := "plain", desc := "()I" } : Jvm.MethodName) ({ cls := "BellLots", name := "plain", desc := "()I" } : Jvm.MethodName)) ∈ lw_all := lw_g (lw_at lw_m2 70 rfl) rfl
theorem q349 : (Jvm.Cond.codeWith ({ cls := "BellLots", name := "plain", desc := "()I" } : Jvm.MethodName) prog_1_method_7_code (3 : Nat) (Option.some Jvm.ClassFile.FieldType.int) [((0 : Nat), (12 : Nat), (15 : Nat), (115 : Nat))]) ∈ lw_all := lw_g (lw_at lw_m2 71 rfl) rfl
theorem q350 : (Jvm.Cond.classLink "BellLots" (115 : Nat) "BellLots$Wrong") ∈ lw_all := lw_g (lw_at lw_m2 72 rfl) rfl
theorem q351 : (Jvm.Cond.classLink "BellLots" (108 : Nat) "BellLots$Reader") ∈ lw_all := lw_g (lw_at lw_m2 73 rfl) rfl
theorem q353 : (Jvm.Cond.methodLinkNest "BellLots" (110 : Nat) ({ cls := "BellLots$Reader", name := "<init>", desc := "(LBellLots;)V" } : Jvm.MethodName) "BellLots") ∈ lw_tbl := lw_at lw_m2 75 rfl
theorem q378 : (Jvm.Cond.methodLink "BellLots" (111 : Nat) ({ cls := "BellLots$Reader", name := "read", desc := "()LBellLots$Book;" } : Jvm.MethodName)) ∈ lw_all := lw_g (lw_at lw_m2 100 rfl) rfl
theorem q537 : (Jvm.Cond.fieldLinkNest "BellLots" (117 : Nat) "BellLots$Wrong" "at" "I" "BellLots") ∈ lw_tbl := lw_at lw_m3 19 rfl
theorem q571 : (Jvm.Cond.methodLink "BellLots" (126 : Nat) ({ cls := "java/util/Arrays", name := "fill", desc := "([ZZ)V" } : Jvm.MethodName)) ∈ lw_all := lw_g (lw_at lw_m3 53 rfl) rfl
theorem q575 : (Jvm.Cond.instanceMethod ({ cls := "BellLots", name := "town", desc := "(II)I" } : Jvm.MethodName)) ∈ lw_all := lw_g (lw_at lw_m3 57 rfl) rfl
theorem q576 : (Jvm.Cond.selects "BellLots" ({ cls := "BellLots", name := "town", desc := "(II)I" } : Jvm.MethodName) ({ cls := "BellLots", name := "town", desc := "(II)I" } : Jvm.MethodName)) ∈ lw_all := lw_g (lw_at lw_m3 58 rfl) rfl
theorem q577 : (Jvm.Cond.code ({ cls := "BellLots", name := "town", desc := "(II)I" } : Jvm.MethodName) prog_1_method_10_code (3 : Nat) (Option.some Jvm.ClassFile.FieldType.int)) ∈ lw_all := lw_g (lw_at lw_m3 59 rfl) rfl
theorem q578 : (Jvm.Cond.methodLink "BellLots" (141 : Nat) ({ cls := "BellLots", name := "isTown", desc := "(I)Z" } : Jvm.MethodName)) ∈ lw_all := lw_g (lw_at lw_m3 60 rfl) rfl
theorem q579 : (Jvm.Cond.privateMethod ({ cls := "BellLots", name := "isTown", desc := "(I)Z" } : Jvm.MethodName)) ∈ lw_tbl := lw_at lw_m3 61 rfl
theorem q580 : (Jvm.Cond.instanceMethod ({ cls := "BellLots", name := "isTown", desc := "(I)Z" } : Jvm.MethodName)) ∈ lw_all := lw_g (lw_at lw_m3 62 rfl) rfl
theorem q581 : (Jvm.Cond.code ({ cls := "BellLots", name := "isTown", desc := "(I)Z" } : Jvm.MethodName) prog_1_method_8_code (2 : Nat) (Option.some Jvm.ClassFile.FieldType.boolean)) ∈ lw_all := lw_g (lw_at lw_m3 63 rfl) rfl
theorem q582 : (Jvm.Cond.methodLink "BellLots" (148 : Nat) ({ cls := "BellLots$Plain", name := "where", desc := "(I)I" } : Jvm.MethodName)) ∈ lw_all := lw_g (lw_at lw_m3 64 rfl) rfl
theorem q586 : (Jvm.Cond.methodLink "BellLots" (152 : Nat) ({ cls := "BellLots$Plain", name := "dumb", desc := "()I" } : Jvm.MethodName)) ∈ lw_all := lw_g (lw_at lw_m3 68 rfl) rfl
theorem q591 : (Jvm.Cond.instanceMethod ({ cls := "BellLots", name := "bell", desc := "(II)I" } : Jvm.MethodName)) ∈ lw_all := lw_g (lw_at lw_m3 73 rfl) rfl
theorem q592 : (Jvm.Cond.selects "BellLots" ({ cls := "BellLots", name := "bell", desc := "(II)I" } : Jvm.MethodName) ({ cls := "BellLots", name := "bell", desc := "(II)I" } : Jvm.MethodName)) ∈ lw_all := lw_g (lw_at lw_m3 74 rfl) rfl
theorem q593 : (Jvm.Cond.code ({ cls := "BellLots", name := "bell", desc := "(II)I" } : Jvm.MethodName) prog_1_method_11_code (3 : Nat) (Option.some Jvm.ClassFile.FieldType.int)) ∈ lw_all := lw_g (lw_at lw_m3 75 rfl) rfl
theorem q594 : (Jvm.Cond.methodLink "BellLots" (159 : Nat) ({ cls := "BellLots", name := "fits", desc := "(I)I" } : Jvm.MethodName)) ∈ lw_all := lw_g (lw_at lw_m3 76 rfl) rfl
theorem q595 : (Jvm.Cond.privateMethod ({ cls := "BellLots", name := "fits", desc := "(I)I" } : Jvm.MethodName)) ∈ lw_tbl := lw_at lw_m3 77 rfl
theorem q596 : (Jvm.Cond.instanceMethod ({ cls := "BellLots", name := "fits", desc := "(I)I" } : Jvm.MethodName)) ∈ lw_all := lw_g (lw_at lw_m3 78 rfl) rfl
theorem q597 : (Jvm.Cond.code ({ cls := "BellLots", name := "fits", desc := "(I)I" } : Jvm.MethodName) prog_1_method_9_code (4 : Nat) (Option.some Jvm.ClassFile.FieldType.int)) ∈ lw_all := lw_g (lw_at lw_m3 79 rfl) rfl
theorem q599 : (Jvm.Cond.instanceMethod ({ cls := "BellLots", name := "far", desc := "(II)I" } : Jvm.MethodName)) ∈ lw_all := lw_g (lw_at lw_m3 81 rfl) rfl
theorem q600 : (Jvm.Cond.selects "BellLots" ({ cls := "BellLots", name := "far", desc := "(II)I" } : Jvm.MethodName) ({ cls := "BellLots", name := "far", desc := "(II)I" } : Jvm.MethodName)) ∈ lw_all := lw_g (lw_at lw_m3 82 rfl) rfl
theorem q601 : (Jvm.Cond.code ({ cls := "BellLots", name := "far", desc := "(II)I" } : Jvm.MethodName) prog_1_method_12_code (3 : Nat) (Option.some Jvm.ClassFile.FieldType.int)) ∈ lw_all := lw_g (lw_at lw_m3 83 rfl) rfl
theorem q602 : (Jvm.Cond.constant "BellLots" (166 : Nat) (100000 : Int32)) ∈ lw_all := lw_g (lw_at lw_m3 84 rfl) rfl
theorem q604 : (Jvm.Cond.instanceMethod ({ cls := "BellLots", name := "oath", desc := "(II)I" } : Jvm.MethodName)) ∈ lw_all := lw_g (lw_at lw_m3 86 rfl) rfl
theorem q605 : (Jvm.Cond.selects "BellLots" ({ cls := "BellLots", name := "oath", desc := "(II)I" } : Jvm.MethodName) ({ cls := "BellLots", name := "oath", desc := "(II)I" } : Jvm.MethodName)) ∈ lw_all := lw_g (lw_at lw_m3 87 rfl) rfl
theorem q606 : (Jvm.Cond.code ({ cls := "BellLots", name := "oath", desc := "(II)I" } : Jvm.MethodName) prog_1_method_13_code (3 : Nat) (Option.some Jvm.ClassFile.FieldType.int)) ∈ lw_all := lw_g (lw_at lw_m3 88 rfl) rfl
theorem q608 : (Jvm.Cond.instanceMethod ({ cls := "BellLots", name := "now", desc := "(I)I" } : Jvm.MethodName)) ∈ lw_all := lw_g (lw_at lw_m3 90 rfl) rfl
theorem q609 : (Jvm.Cond.selects "BellLots" ({ cls := "BellLots", name := "now", desc := "(I)I" } : Jvm.MethodName) ({ cls := "BellLots", name := "now", desc := "(I)I" } : Jvm.MethodName)) ∈ lw_all := lw_g (lw_at lw_m3 91 rfl) rfl
theorem q610 : (Jvm.Cond.code ({ cls := "BellLots", name := "now", desc := "(I)I" } : Jvm.MethodName) prog_1_method_14_code (2 : Nat) (Option.some Jvm.ClassFile.FieldType.int)) ∈ lw_all := lw_g (lw_at lw_m3 92 rfl) rfl
theorem q611 : (Jvm.Cond.methodLink "BellLots" (188 : Nat) ({ cls := "BellLots$Plain", name := "homes", desc := "()I" } : Jvm.MethodName)) ∈ lw_all := lw_g (lw_at lw_m3 93 rfl) rfl
theorem q616 : (Jvm.Cond.instanceMethod ({ cls := "BellLots", name := "lots", desc := "(I)I" } : Jvm.MethodName)) ∈ lw_all := lw_g (lw_at lw_m3 98 rfl) rfl
theorem q617 : (Jvm.Cond.selects "BellLots" ({ cls := "BellLots", name := "lots", desc := "(I)I" } : Jvm.MethodName) ({ cls := "BellLots", name := "lots", desc := "(I)I" } : Jvm.MethodName)) ∈ lw_all := lw_g (lw_at lw_m3 99 rfl) rfl
theorem q618 : (Jvm.Cond.code ({ cls := "BellLots", name := "lots", desc := "(I)I" } : Jvm.MethodName) prog_1_method_17_code (2 : Nat) (Option.some Jvm.ClassFile.FieldType.int)) ∈ lw_all := lw_g (lw_at lw_m3 100 rfl) rfl
theorem q619 : (Jvm.Cond.methodLink "BellLots" (201 : Nat) ({ cls := "BellLots", name := "isSeed", desc := "(I)Z" } : Jvm.MethodName)) ∈ lw_all := lw_g (lw_at lw_m3 101 rfl) rfl
theorem q620 : (Jvm.Cond.static ({ cls := "BellLots", name := "isSeed", desc := "(I)Z" } : Jvm.MethodName)) ∈ lw_all := lw_g (lw_at lw_m3 102 rfl) rfl
theorem q621 : (Jvm.Cond.code ({ cls := "BellLots", name := "isSeed", desc := "(I)Z" } : Jvm.MethodName) prog_1_method_16_code (1 : Nat) (Option.some Jvm.ClassFile.FieldType.boolean)) ∈ lw_all := lw_g (lw_at lw_m3 103 rfl) rfl
theorem q622 : (Jvm.Cond.methodLink "BellLots" (204 : Nat) ({ cls := "BellLots", name := "know", desc := "()V" } : Jvm.MethodName)) ∈ lw_all := lw_g (lw_at lw_m3 104 rfl) rfl
theorem q623 : (Jvm.Cond.privateMethod ({ cls := "BellLots", name := "know", desc := "()V" } : Jvm.MethodName)) ∈ lw_tbl := lw_at lw_m3 105 rfl
theorem q624 : (Jvm.Cond.instanceMethod ({ cls := "BellLots", name := "know", desc := "()V" } : Jvm.MethodName)) ∈ lw_all := lw_g (lw_at lw_m3 106 rfl) rfl
theorem q625 : (Jvm.Cond.code ({ cls := "BellLots", name := "know", desc := "()V" } : Jvm.MethodName) prog_1_method_15_code (2 : Nat) (Option.none : Option Jvm.ClassFile.FieldType)) ∈ lw_all := lw_g (lw_at lw_m3 107 rfl) rfl
theorem q626 : (Jvm.Cond.methodLink "BellLots" (191 : Nat) ({ cls := "java/lang/System", name := "arraycopy", desc := "(Ljava/lang/Object;ILjava/lang/Object;II)V" } : Jvm.MethodName)) ∈ lw_all := lw_g (lw_at lw_m3 108 rfl) rfl
theorem q629 : (Jvm.Cond.methodLink "BellLots" (197 : Nat) ({ cls := "BellLots$Plain", name := "copyOf", desc := "(LBellLots$Plain;)V" } : Jvm.MethodName)) ∈ lw_all := lw_g (lw_at lw_m3 111 rfl) rfl
theorem q634 : (Jvm.Cond.methodLink "BellLots" (207 : Nat) ({ cls := "BellLots$Plain", name := "draw", desc := "(I)I" } : Jvm.MethodName)) ∈ lw_all := lw_g (lw_at lw_m3 116 rfl) rfl
theorem q643 : (Jvm.Cond.privateMethod ({ cls := "BellLots", name := "lotOf", desc := "(I)V" } : Jvm.MethodName)) ∈ lw_tbl := lw_at lw_m3 125 rfl
theorem q644 : (Jvm.Cond.instanceMethod ({ cls := "BellLots", name := "lotOf", desc := "(I)V" } : Jvm.MethodName)) ∈ lw_all := lw_g (lw_at lw_m3 126 rfl) rfl
theorem q645 : (Jvm.Cond.code ({ cls := "BellLots", name := "lotOf", desc := "(I)V" } : Jvm.MethodName) prog_1_method_2_code (8 : Nat) (Option.none : Option Jvm.ClassFile.FieldType)) ∈ lw_all := lw_g (lw_at lw_m3 127 rfl) rfl
theorem q646 : (Jvm.Cond.constantLong "BellLots" (13 : Nat) (7919 : Int64)) ∈ lw_all := lw_g (lw_at lw_m3 128 rfl) rfl
theorem q647 : (Jvm.Cond.constantLong "BellLots" (15 : Nat) (6151 : Int64)) ∈ lw_all := lw_g (lw_at lw_m3 129 rfl) rfl
theorem q648 : (Jvm.Cond.constantLong "BellLots" (17 : Nat) (65521 : Int64)) ∈ lw_all := lw_g (lw_at lw_m3 130 rfl) rfl
theorem q654 : (Jvm.Cond.instanceMethod ({ cls := "BellLots", name := "trades", desc := "(II)I" } : Jvm.MethodName)) ∈ lw_all := lw_g (lw_at lw_m3 136 rfl) rfl
theorem q655 : (Jvm.Cond.selects "BellLots" ({ cls := "BellLots", name := "trades", desc := "(II)I" } : Jvm.MethodName) ({ cls := "BellLots", name := "trades", desc := "(II)I" } : Jvm.MethodName)) ∈ lw_all := lw_g (lw_at lw_m3 137 rfl) rfl
theorem q656 : (Jvm.Cond.code ({ cls := "BellLots", name := "trades", desc := "(II)I" } : Jvm.MethodName) prog_1_method_18_code (3 : Nat) (Option.some Jvm.ClassFile.FieldType.int)) ∈ lw_all := lw_g (lw_at lw_m3 138 rfl) rfl
theorem q657 : (Jvm.Cond.methodLink "BellLots" (210 : Nat) ({ cls := "BellLots$Plain", name := "trade", desc := "(II)I" } : Jvm.MethodName)) ∈ lw_all := lw_g (lw_at lw_m3 139 rfl) rfl
theorem q662 : (Jvm.Cond.instanceMethod ({ cls := "BellLots", name := "widens", desc := "(II)I" } : Jvm.MethodName)) ∈ lw_all := lw_g (lw_at lw_m3 144 rfl) rfl
theorem q663 : (Jvm.Cond.selects "BellLots" ({ cls := "BellLots", name := "widens", desc := "(II)I" } : Jvm.MethodName) ({ cls := "BellLots", name := "widens", desc := "(II)I" } : Jvm.MethodName)) ∈ lw_all := lw_g (lw_at lw_m3 145 rfl) rfl
theorem q664 : (Jvm.Cond.code ({ cls := "BellLots", name := "widens", desc := "(II)I" } : Jvm.MethodName) prog_1_method_19_code (4 : Nat) (Option.some Jvm.ClassFile.FieldType.int)) ∈ lw_all := lw_g (lw_at lw_m3 146 rfl) rfl
theorem q666 : (Jvm.Cond.instanceMethod ({ cls := "BellLots", name := "undo", desc := "()I" } : Jvm.MethodName)) ∈ lw_all := lw_g (lw_at lw_m3 148 rfl) rfl
theorem q667 : (Jvm.Cond.selects "BellLots" ({ cls := "BellLots", name := "undo", desc := "()I" } : Jvm.MethodName) ({ cls := "BellLots", name := "undo", desc := "()I" } : Jvm.MethodName)) ∈ lw_all := lw_g (lw_at lw_m3 149 rfl) rfl
theorem q668 : (Jvm.Cond.code ({ cls := "BellLots", name := "undo", desc := "()I" } : Jvm.MethodName) prog_1_method_20_code (1 : Nat) (Option.some Jvm.ClassFile.FieldType.int)) ∈ lw_all := lw_g (lw_at lw_m3 150 rfl) rfl
theorem q670 : (Jvm.Cond.instanceMethod ({ cls := "BellLots", name := "inLots", desc := "(III)I" } : Jvm.MethodName)) ∈ lw_all := lw_g (lw_at lw_m3 152 rfl) rfl
theorem q671 : (Jvm.Cond.selects "BellLots" ({ cls := "BellLots", name := "inLots", desc := "(III)I" } : Jvm.MethodName) ({ cls := "BellLots", name := "inLots", desc := "(III)I" } : Jvm.MethodName)) ∈ lw_all := lw_g (lw_at lw_m3 153 rfl) rfl
theorem q672 : (Jvm.Cond.code ({ cls := "BellLots", name := "inLots", desc := "(III)I" } : Jvm.MethodName) prog_1_method_21_code (5 : Nat) (Option.some Jvm.ClassFile.FieldType.int)) ∈ lw_all := lw_g (lw_at lw_m3 154 rfl) rfl
theorem q674 : (Jvm.Cond.instanceMethod ({ cls := "BellLots", name := "cost", desc := "(I)I" } : Jvm.MethodName)) ∈ lw_all := lw_g (lw_at lw_m3 156 rfl) rfl
theorem q675 : (Jvm.Cond.selects "BellLots" ({ cls := "BellLots", name := "cost", desc := "(I)I" } : Jvm.MethodName) ({ cls := "BellLots", name := "cost", desc := "(I)I" } : Jvm.MethodName)) ∈ lw_all := lw_g (lw_at lw_m3 157 rfl) rfl
theorem q676 : (Jvm.Cond.code ({ cls := "BellLots", name := "cost", desc := "(I)I" } : Jvm.MethodName) prog_1_method_22_code (5 : Nat) (Option.some Jvm.ClassFile.FieldType.int)) ∈ lw_all := lw_g (lw_at lw_m3 158 rfl) rfl
theorem q677 : (Jvm.Cond.methodLink "BellLots" (214 : Nat) ({ cls := "BellLots", name := "lotOf", desc := "(I)V" } : Jvm.MethodName)) ∈ lw_all := lw_g (lw_at lw_m3 159 rfl) rfl
theorem q679 : (Jvm.Cond.instanceMethod ({ cls := "BellLots", name := "home", desc := "(I)I" } : Jvm.MethodName)) ∈ lw_all := lw_g (lw_at lw_m3 161 rfl) rfl
theorem q680 : (Jvm.Cond.selects "BellLots" ({ cls := "BellLots", name := "home", desc := "(I)I" } : Jvm.MethodName) ({ cls := "BellLots", name := "home", desc := "(I)I" } : Jvm.MethodName)) ∈ lw_all := lw_g (lw_at lw_m3 162 rfl) rfl
theorem q681 : (Jvm.Cond.code ({ cls := "BellLots", name := "home", desc := "(I)I" } : Jvm.MethodName) prog_1_method_23_code (6 : Nat) (Option.some Jvm.ClassFile.FieldType.int)) ∈ lw_all := lw_g (lw_at lw_m3 163 rfl) rfl
theorem q683 : (Jvm.Cond.instanceMethod ({ cls := "BellLots", name := "hang", desc := "(I)I" } : Jvm.MethodName)) ∈ lw_all := lw_g (lw_at lw_m3 165 rfl) rfl
theorem q684 : (Jvm.Cond.selects "BellLots" ({ cls := "BellLots", name := "hang", desc := "(I)I" } : Jvm.MethodName) ({ cls := "BellLots", name := "hang", desc := "(I)I" } : Jvm.MethodName)) ∈ lw_all := lw_g (lw_at lw_m3 166 rfl) rfl
theorem q685 : (Jvm.Cond.code ({ cls := "BellLots", name := "hang", desc := "(I)I" } : Jvm.MethodName) prog_1_method_25_code (2 : Nat) (Option.some Jvm.ClassFile.FieldType.int)) ∈ lw_all := lw_g (lw_at lw_m3 167 rfl) rfl
theorem q686 : (Jvm.Cond.methodLink "BellLots" (221 : Nat) ({ cls := "BellLots", name := "hangFrom", desc := "(III)V" } : Jvm.MethodName)) ∈ lw_all := lw_g (lw_at lw_m3 168 rfl) rfl
theorem q687 : (Jvm.Cond.privateMethod ({ cls := "BellLots", name := "hangFrom", desc := "(III)V" } : Jvm.MethodName)) ∈ lw_tbl := lw_at lw_m3 169 rfl
theorem q688 : (Jvm.Cond.instanceMethod ({ cls := "BellLots", name := "hangFrom", desc := "(III)V" } : Jvm.MethodName)) ∈ lw_all := lw_g (lw_at lw_m3 170 rfl) rfl
theorem q689 : (Jvm.Cond.code ({ cls := "BellLots", name := "hangFrom", desc := "(III)V" } : Jvm.MethodName) prog_1_method_24_code (6 : Nat) (Option.none : Option Jvm.ClassFile.FieldType)) ∈ lw_all := lw_g (lw_at lw_m3 171 rfl) rfl
theorem q691 : (Jvm.Cond.instanceMethod ({ cls := "BellLots", name := "round", desc := "(I)I" } : Jvm.MethodName)) ∈ lw_all := lw_g (lw_at lw_m3 173 rfl) rfl
theorem q692 : (Jvm.Cond.selects "BellLots" ({ cls := "BellLots", name := "round", desc := "(I)I" } : Jvm.MethodName) ({ cls := "BellLots", name := "round", desc := "(I)I" } : Jvm.MethodName)) ∈ lw_all := lw_g (lw_at lw_m3 174 rfl) rfl
theorem q693 : (Jvm.Cond.code ({ cls := "BellLots", name := "round", desc := "(I)I" } : Jvm.MethodName) prog_1_method_26_code (5 : Nat) (Option.some Jvm.ClassFile.FieldType.int)) ∈ lw_all := lw_g (lw_at lw_m3 175 rfl) rfl
theorem q695 : (Jvm.Cond.instanceMethod ({ cls := "BellLots", name := "crossed", desc := "()I" } : Jvm.MethodName)) ∈ lw_all := lw_g (lw_at lw_m3 177 rfl) rfl
theorem q696 : (Jvm.Cond.selects "BellLots" ({ cls := "BellLots", name := "crossed", desc := "()I" } : Jvm.MethodName) ({ cls := "BellLots", name := "crossed", desc := "()I" } : Jvm.MethodName)) ∈ lw_all := lw_g (lw_at lw_m3 178 rfl) rfl
theorem q697 : (Jvm.Cond.code ({ cls := "BellLots", name := "crossed", desc := "()I" } : Jvm.MethodName) prog_1_method_28_code (3 : Nat) (Option.some Jvm.ClassFile.FieldType.int)) ∈ lw_all := lw_g (lw_at lw_m3 179 rfl) rfl
theorem q698 : (Jvm.Cond.methodLink "BellLots" (225 : Nat) ({ cls := "BellLots", name := "areCrossed", desc := "(II)Z" } : Jvm.MethodName)) ∈ lw_all := lw_g (lw_at lw_m3 180 rfl) rfl
theorem q699 : (Jvm.Cond.privateMethod ({ cls := "BellLots", name := "areCrossed", desc := "(II)Z" } : Jvm.MethodName)) ∈ lw_tbl := lw_at lw_m3 181 rfl
theorem q700 : (Jvm.Cond.instanceMethod ({ cls := "BellLots", name := "areCrossed", desc := "(II)Z" } : Jvm.MethodName)) ∈ lw_all := lw_g (lw_at lw_m3 182 rfl) rfl
theorem q701 : (Jvm.Cond.code ({ cls := "BellLots", name := "areCrossed", desc := "(II)Z" } : Jvm.MethodName) prog_1_method_27_code (5 : Nat) (Option.some Jvm.ClassFile.FieldType.boolean)) ∈ lw_all := lw_g (lw_at lw_m3 183 rfl) rfl
theorem q703 : (Jvm.Cond.instanceMethod ({ cls := "BellLots", name := "oaths", desc := "(I)I" } : Jvm.MethodName)) ∈ lw_all := lw_g (lw_at lw_m3 185 rfl) rfl
theorem q704 : (Jvm.Cond.selects "BellLots" ({ cls := "BellLots", name := "oaths", desc := "(I)I" } : Jvm.MethodName) ({ cls := "BellLots", name := "oaths", desc := "(I)I" } : Jvm.MethodName)) ∈ lw_all := lw_g (lw_at lw_m3 186 rfl) rfl
theorem q705 : (Jvm.Cond.code ({ cls := "BellLots", name := "oaths", desc := "(I)I" } : Jvm.MethodName) prog_1_method_29_code (4 : Nat) (Option.some Jvm.ClassFile.FieldType.int)) ∈ lw_all := lw_g (lw_at lw_m3 187 rfl) rfl
theorem q707 : (Jvm.Cond.instanceMethod ({ cls := "BellLots", name := "strokes", desc := "(II)I" } : Jvm.MethodName)) ∈ lw_all := lw_g (lw_at lw_m3 189 rfl) rfl
theorem q708 : (Jvm.Cond.selects "BellLots" ({ cls := "BellLots", name := "strokes", desc := "(II)I" } : Jvm.MethodName) ({ cls := "BellLots", name := "strokes", desc := "(II)I" } : Jvm.MethodName)) ∈ lw_all := lw_g (lw_at lw_m3 190 rfl) rfl
theorem q709 : (Jvm.Cond.code ({ cls := "BellLots", name := "strokes", desc := "(II)I" } : Jvm.MethodName) prog_1_method_30_code (3 : Nat) (Option.some Jvm.ClassFile.FieldType.int)) ∈ lw_all := lw_g (lw_at lw_m3 191 rfl) rfl
theorem q711 : (Jvm.Cond.instanceMethod ({ cls := "BellLots", name := "found", desc := "(II)I" } : Jvm.MethodName)) ∈ lw_all := lw_g (lw_at lw_m3 193 rfl) rfl
theorem q712 : (Jvm.Cond.selects "BellLots" ({ cls := "BellLots", name := "found", desc := "(II)I" } : Jvm.MethodName) ({ cls := "BellLots", name := "found", desc := "(II)I" } : Jvm.MethodName)) ∈ lw_all := lw_g (lw_at lw_m3 194 rfl) rfl
theorem q713 : (Jvm.Cond.code ({ cls := "BellLots", name := "found", desc := "(II)I" } : Jvm.MethodName) prog_1_method_31_code (3 : Nat) (Option.some Jvm.ClassFile.FieldType.int)) ∈ lw_all := lw_g (lw_at lw_m3 195 rfl) rfl
theorem q715 : (Jvm.Cond.instanceMethod ({ cls := "BellLots", name := "forget", desc := "()I" } : Jvm.MethodName)) ∈ lw_all := lw_g (lw_at lw_m3 197 rfl) rfl
theorem q716 : (Jvm.Cond.selects "BellLots" ({ cls := "BellLots", name := "forget", desc := "()I" } : Jvm.MethodName) ({ cls := "BellLots", name := "forget", desc := "()I" } : Jvm.MethodName)) ∈ lw_all := lw_g (lw_at lw_m3 198 rfl) rfl
theorem q717 : (Jvm.Cond.code ({ cls := "BellLots", name := "forget", desc := "()I" } : Jvm.MethodName) prog_1_method_32_code (2 : Nat) (Option.some Jvm.ClassFile.FieldType.int)) ∈ lw_all := lw_g (lw_at lw_m3 199 rfl) rfl
theorem q719 : (Jvm.Cond.instanceMethod ({ cls := "BellLots", name := "which", desc := "(I)I" } : Jvm.MethodName)) ∈ lw_all := lw_g (lw_at lw_m3 201 rfl) rfl
theorem q720 : (Jvm.Cond.selects "BellLots" ({ cls := "BellLots", name := "which", desc := "(I)I" } : Jvm.MethodName) ({ cls := "BellLots", name := "which", desc := "(I)I" } : Jvm.MethodName)) ∈ lw_all := lw_g (lw_at lw_m3 202 rfl) rfl
theorem q721 : (Jvm.Cond.code ({ cls := "BellLots", name := "which", desc := "(I)I" } : Jvm.MethodName) prog_1_method_33_code (7 : Nat) (Option.some Jvm.ClassFile.FieldType.int)) ∈ lw_all := lw_g (lw_at lw_m3 203 rfl) rfl
theorem q723 : (Jvm.Cond.instanceMethod ({ cls := "BellLots", name := "odds", desc := "(I)I" } : Jvm.MethodName)) ∈ lw_all := lw_g (lw_at lw_m3 205 rfl) rfl
theorem q724 : (Jvm.Cond.selects "BellLots" ({ cls := "BellLots", name := "odds", desc := "(I)I" } : Jvm.MethodName) ({ cls := "BellLots", name := "odds", desc := "(I)I" } : Jvm.MethodName)) ∈ lw_all := lw_g (lw_at lw_m3 206 rfl) rfl
theorem q725 : (Jvm.Cond.code ({ cls := "BellLots", name := "odds", desc := "(I)I" } : Jvm.MethodName) prog_1_method_36_code (5 : Nat) (Option.some Jvm.ClassFile.FieldType.int)) ∈ lw_all := lw_g (lw_at lw_m3 207 rfl) rfl
theorem q726 : (Jvm.Cond.methodLink "BellLots" (232 : Nat) ({ cls := "BellLots", name := "ways", desc := "(II)I" } : Jvm.MethodName)) ∈ lw_all := lw_g (lw_at lw_m3 208 rfl) rfl
theorem q727 : (Jvm.Cond.privateMethod ({ cls := "BellLots", name := "ways", desc := "(II)I" } : Jvm.MethodName)) ∈ lw_tbl := lw_at lw_m3 209 rfl
theorem q728 : (Jvm.Cond.instanceMethod ({ cls := "BellLots", name := "ways", desc := "(II)I" } : Jvm.MethodName)) ∈ lw_all := lw_g (lw_at lw_m3 210 rfl) rfl
theorem q729 : (Jvm.Cond.code ({ cls := "BellLots", name := "ways", desc := "(II)I" } : Jvm.MethodName) prog_1_method_34_code (6 : Nat) (Option.some Jvm.ClassFile.FieldType.int)) ∈ lw_all := lw_g (lw_at lw_m3 211 rfl) rfl
theorem q730 : (Jvm.Cond.methodLink "BellLots" (235 : Nat) ({ cls := "BellLots", name := "common", desc := "(II)I" } : Jvm.MethodName)) ∈ lw_all := lw_g (lw_at lw_m3 212 rfl) rfl
theorem q731 : (Jvm.Cond.static ({ cls := "BellLots", name := "common", desc := "(II)I" } : Jvm.MethodName)) ∈ lw_all := lw_g (lw_at lw_m3 213 rfl) rfl
theorem q732 : (Jvm.Cond.code ({ cls := "BellLots", name := "common", desc := "(II)I" } : Jvm.MethodName) prog_1_method_35_code (2 : Nat) (Option.some Jvm.ClassFile.FieldType.int)) ∈ lw_all := lw_g (lw_at lw_m3 214 rfl) rfl
theorem q734 : (Jvm.Cond.instanceMethod ({ cls := "BellLots", name := "rate", desc := "(II)I" } : Jvm.MethodName)) ∈ lw_all := lw_g (lw_at lw_m3 216 rfl) rfl
theorem q735 : (Jvm.Cond.selects "BellLots" ({ cls := "BellLots", name := "rate", desc := "(II)I" } : Jvm.MethodName) ({ cls := "BellLots", name := "rate", desc := "(II)I" } : Jvm.MethodName)) ∈ lw_all := lw_g (lw_at lw_m3 217 rfl) rfl
theorem q736 : (Jvm.Cond.code ({ cls := "BellLots", name := "rate", desc := "(II)I" } : Jvm.MethodName) prog_1_method_37_code (3 : Nat) (Option.some Jvm.ClassFile.FieldType.int)) ∈ lw_all := lw_g (lw_at lw_m3 218 rfl) rfl
theorem q737 : (Jvm.Cond.methodLink "BellLots" (238 : Nat) ({ cls := "BellLots$Bell", name := "rate", desc := "(I)I" } : Jvm.MethodName)) ∈ lw_all := lw_g (lw_at lw_m3 219 rfl) rfl
theorem q768 : (Jvm.Cond.constant "BellLots" (241 : Nat) (-1000000 : Int32)) ∈ lw_all := lw_g (lw_at lw_m4 10 rfl) rfl
theorem q770 : (Jvm.Cond.instanceMethod ({ cls := "BellLots", name := "keep", desc := "(I)I" } : Jvm.MethodName)) ∈ lw_all := lw_g (lw_at lw_m4 12 rfl) rfl
theorem q771 : (Jvm.Cond.selects "BellLots" ({ cls := "BellLots", name := "keep", desc := "(I)I" } : Jvm.MethodName) ({ cls := "BellLots", name := "keep", desc := "(I)I" } : Jvm.MethodName)) ∈ lw_all := lw_g (lw_at lw_m4 13 rfl) rfl
theorem q772 : (Jvm.Cond.code ({ cls := "BellLots", name := "keep", desc := "(I)I" } : Jvm.MethodName) prog_1_method_38_code (2 : Nat) (Option.some Jvm.ClassFile.FieldType.int)) ∈ lw_all := lw_g (lw_at lw_m4 14 rfl) rfl
theorem q774 : (Jvm.Cond.instanceMethod ({ cls := "BellLots", name := "back", desc := "(I)I" } : Jvm.MethodName)) ∈ lw_all := lw_g (lw_at lw_m4 16 rfl) rfl
theorem q775 : (Jvm.Cond.selects "BellLots" ({ cls := "BellLots", name := "back", desc := "(I)I" } : Jvm.MethodName) ({ cls := "BellLots", name := "back", desc := "(I)I" } : Jvm.MethodName)) ∈ lw_all := lw_g (lw_at lw_m4 17 rfl) rfl
theorem q776 : (Jvm.Cond.code ({ cls := "BellLots", name := "back", desc := "(I)I" } : Jvm.MethodName) prog_1_method_39_code (2 : Nat) (Option.some Jvm.ClassFile.FieldType.int)) ∈ lw_all := lw_g (lw_at lw_m4 18 rfl) rfl
theorem q778 : (Jvm.Cond.instanceMethod ({ cls := "BellLots", name := "count", desc := "(I)I" } : Jvm.MethodName)) ∈ lw_all := lw_g (lw_at lw_m4 20 rfl) rfl
theorem q779 : (Jvm.Cond.selects "BellLots" ({ cls := "BellLots", name := "count", desc := "(I)I" } : Jvm.MethodName) ({ cls := "BellLots", name := "count", desc := "(I)I" } : Jvm.MethodName)) ∈ lw_all := lw_g (lw_at lw_m4 21 rfl) rfl
theorem q780 : (Jvm.Cond.code ({ cls := "BellLots", name := "count", desc := "(I)I" } : Jvm.MethodName) prog_1_method_40_code (2 : Nat) (Option.some Jvm.ClassFile.FieldType.int)) ∈ lw_all := lw_g (lw_at lw_m4 22 rfl) rfl
theorem q781 : (Jvm.Cond.methodLink "BellLots" (242 : Nat) ({ cls := "BellLots$Book", name := "roads", desc := "()I" } : Jvm.MethodName)) ∈ lw_all := lw_g (lw_at lw_m4 23 rfl) rfl
theorem q786 : (Jvm.Cond.instanceMethod ({ cls := "BellLots", name := "trace", desc := "()J" } : Jvm.MethodName)) ∈ lw_all := lw_g (lw_at lw_m4 28 rfl) rfl
theorem q787 : (Jvm.Cond.selects "BellLots" ({ cls := "BellLots", name := "trace", desc := "()J" } : Jvm.MethodName) ({ cls := "BellLots", name := "trace", desc := "()J" } : Jvm.MethodName)) ∈ lw_all := lw_g (lw_at lw_m4 29 rfl) rfl
theorem q788 : (Jvm.Cond.code ({ cls := "BellLots", name := "trace", desc := "()J" } : Jvm.MethodName) prog_1_method_41_code (1 : Nat) (Option.some Jvm.ClassFile.FieldType.long)) ∈ lw_all := lw_g (lw_at lw_m4 30 rfl) rfl
theorem in_X0 : ∀ w ∈ wsX00, w ∈ lw_all := lw_in wsX00 [296, 298, 300, 302, 304, 306, 308, 310, 312, 314, 316, 318, 320, 322, 324, 326, 328, 330, 332] (by decide +kernel) (by decide +kernel)
theorem q77 : (Jvm.Cond.arrayOver (Jvm.ClassFile.FieldType.array Jvm.ClassFile.FieldType.int)) ∈ lw_tbl := lw_at lw_m1 39 rfl
set_option maxRecDepth 100000
theorem q139 : (Jvm.Cond.arrayClass Jvm.ClassFile.FieldType.int) ∈ lw_all := lw_g (lw_at lw_m1 101 rfl) rfl
theorem q181 : (Jvm.Cond.arrayOver (Jvm.ClassFile.FieldType.object "BellLots$Plain")) ∈ lw_tbl := lw_at lw_m1 143 rfl
theorem q183 : (Jvm.Cond.arrayOver (Jvm.ClassFile.FieldType.object "BellLots$Bell")) ∈ lw_tbl := lw_at lw_m1 145 rfl
theorem q193 : (Jvm.Cond.arrayClass Jvm.ClassFile.FieldType.boolean) ∈ lw_all := lw_g (lw_at lw_m1 155 rfl) rfl
theorem q194 : (Jvm.Cond.arrayClass Jvm.ClassFile.FieldType.byte) ∈ lw_all := lw_g (lw_at lw_m1 156 rfl) rfl
theorem q38 : (Jvm.Cond.initialized "BellLotsLaw") ∈ lw_all := lw_g (lw_at lw_m1 0 rfl) rfl
set_option maxRecDepth 100000
theorem q62 : (Jvm.Cond.classLink "BellLotsLaw" (7 : Nat) "BellLots") ∈ lw_all := lw_g (lw_at lw_m1 24 rfl) rfl
theorem q64 : (Jvm.Cond.methodLink "BellLotsLaw" (9 : Nat) ({ cls := "BellLots", name := "<init>", desc := "()V" } : Jvm.MethodName)) ∈ lw_all := lw_g (lw_at lw_m1 26 rfl) rfl
theorem q335 : (Jvm.Cond.methodLink "BellLotsLaw" (13 : Nat) ({ cls := "BellLots", name := "type", desc := "(I)I" } : Jvm.MethodName)) ∈ lw_all := lw_g (lw_at lw_m2 57 rfl) rfl
theorem q342 : (Jvm.Cond.methodLink "BellLotsLaw" (18 : Nat) ({ cls := "BellLots", name := "clear", desc := "()I" } : Jvm.MethodName)) ∈ lw_all := lw_g (lw_at lw_m2 64 rfl) rfl
theorem q346 : (Jvm.Cond.methodLink "BellLotsLaw" (23 : Nat) ({ cls := "BellLots", name := "plain", desc := "()I" } : Jvm.MethodName)) ∈ lw_all := lw_g (lw_at lw_m2 68 rfl) rfl
theorem q574 : (Jvm.Cond.methodLink "BellLotsLaw" (27 : Nat) ({ cls := "BellLots", name := "town", desc := "(II)I" } : Jvm.MethodName)) ∈ lw_all := lw_g (lw_at lw_m3 56 rfl) rfl
theorem q590 : (Jvm.Cond.methodLink "BellLotsLaw" (32 : Nat) ({ cls := "BellLots", name := "bell", desc := "(II)I" } : Jvm.MethodName)) ∈ lw_all := lw_g (lw_at lw_m3 72 rfl) rfl
theorem q598 : (Jvm.Cond.methodLink "BellLotsLaw" (36 : Nat) ({ cls := "BellLots", name := "far", desc := "(II)I" } : Jvm.MethodName)) ∈ lw_all := lw_g (lw_at lw_m3 80 rfl) rfl
theorem q603 : (Jvm.Cond.methodLink "BellLotsLaw" (40 : Nat) ({ cls := "BellLots", name := "oath", desc := "(II)I" } : Jvm.MethodName)) ∈ lw_all := lw_g (lw_at lw_m3 85 rfl) rfl
theorem q607 : (Jvm.Cond.methodLink "BellLotsLaw" (44 : Nat) ({ cls := "BellLots", name := "now", desc := "(I)I" } : Jvm.MethodName)) ∈ lw_all := lw_g (lw_at lw_m3 89 rfl) rfl
theorem q615 : (Jvm.Cond.methodLink "BellLotsLaw" (48 : Nat) ({ cls := "BellLots", name := "lots", desc := "(I)I" } : Jvm.MethodName)) ∈ lw_all := lw_g (lw_at lw_m3 97 rfl) rfl
theorem q653 : (Jvm.Cond.methodLink "BellLotsLaw" (52 : Nat) ({ cls := "BellLots", name := "trades", desc := "(II)I" } : Jvm.MethodName)) ∈ lw_all := lw_g (lw_at lw_m3 135 rfl) rfl
theorem q661 : (Jvm.Cond.methodLink "BellLotsLaw" (56 : Nat) ({ cls := "BellLots", name := "widens", desc := "(II)I" } : Jvm.MethodName)) ∈ lw_all := lw_g (lw_at lw_m3 143 rfl) rfl
theorem q665 : (Jvm.Cond.methodLink "BellLotsLaw" (60 : Nat) ({ cls := "BellLots", name := "undo", desc := "()I" } : Jvm.MethodName)) ∈ lw_all := lw_g (lw_at lw_m3 147 rfl) rfl
theorem q669 : (Jvm.Cond.methodLink "BellLotsLaw" (64 : Nat) ({ cls := "BellLots", name := "inLots", desc := "(III)I" } : Jvm.MethodName)) ∈ lw_all := lw_g (lw_at lw_m3 151 rfl) rfl
theorem q673 : (Jvm.Cond.methodLink "BellLotsLaw" (69 : Nat) ({ cls := "BellLots", name := "cost", desc := "(I)I" } : Jvm.MethodName)) ∈ lw_all := lw_g (lw_at lw_m3 155 rfl) rfl
theorem q678 : (Jvm.Cond.methodLink "BellLotsLaw" (73 : Nat) ({ cls := "BellLots", name := "home", desc := "(I)I" } : Jvm.MethodName)) ∈ lw_all := lw_g (lw_at lw_m3 160 rfl) rfl
theorem q682 : (Jvm.Cond.methodLink "BellLotsLaw" (77 : Nat) ({ cls := "BellLots", name := "hang", desc := "(I)I" } : Jvm.MethodName)) ∈ lw_all := lw_g (lw_at lw_m3 164 rfl) rfl
theorem q690 : (Jvm.Cond.methodLink "BellLotsLaw" (81 : Nat) ({ cls := "BellLots", name := "round", desc := "(I)I" } : Jvm.MethodName)) ∈ lw_all := lw_g (lw_at lw_m3 172 rfl) rfl
theorem q694 : (Jvm.Cond.methodLink "BellLotsLaw" (85 : Nat) ({ cls := "BellLots", name := "crossed", desc := "()I" } : Jvm.MethodName)) ∈ lw_all := lw_g (lw_at lw_m3 176 rfl) rfl
theorem q702 : (Jvm.Cond.methodLink "BellLotsLaw" (89 : Nat) ({ cls := "BellLots", name := "oaths", desc := "(I)I" } : Jvm.MethodName)) ∈ lw_all := lw_g (lw_at lw_m3 184 rfl) rfl
theorem q706 : (Jvm.Cond.methodLink "BellLotsLaw" (93 : Nat) ({ cls := "BellLots", name := "strokes", desc := "(II)I" } : Jvm.MethodName)) ∈ lw_all := lw_g (lw_at lw_m3 188 rfl) rfl
theorem q710 : (Jvm.Cond.methodLink "BellLotsLaw" (97 : Nat) ({ cls := "BellLots", name := "found", desc := "(II)I" } : Jvm.MethodName)) ∈ lw_all := lw_g (lw_at lw_m3 192 rfl) rfl
theorem q714 : (Jvm.Cond.methodLink "BellLotsLaw" (101 : Nat) ({ cls := "BellLots", name := "forget", desc := "()I" } : Jvm.MethodName)) ∈ lw_all := lw_g (lw_at lw_m3 196 rfl) rfl
theorem q718 : (Jvm.Cond.methodLink "BellLotsLaw" (105 : Nat) ({ cls := "BellLots", name := "which", desc := "(I)I" } : Jvm.MethodName)) ∈ lw_all := lw_g (lw_at lw_m3 200 rfl) rfl
theorem q722 : (Jvm.Cond.methodLink "BellLotsLaw" (109 : Nat) ({ cls := "BellLots", name := "odds", desc := "(I)I" } : Jvm.MethodName)) ∈ lw_all := lw_g (lw_at lw_m3 204 rfl) rfl
theorem q733 : (Jvm.Cond.methodLink "BellLotsLaw" (113 : Nat) ({ cls := "BellLots", name := "rate", desc := "(II)I" } : Jvm.MethodName)) ∈ lw_all := lw_g (lw_at lw_m3 215 rfl) rfl
theorem q769 : (Jvm.Cond.methodLink "BellLotsLaw" (117 : Nat) ({ cls := "BellLots", name := "keep", desc := "(I)I" } : Jvm.MethodName)) ∈ lw_all := lw_g (lw_at lw_m4 11 rfl) rfl
theorem q773 : (Jvm.Cond.methodLink "BellLotsLaw" (121 : Nat) ({ cls := "BellLots", name := "back", desc := "(I)I" } : Jvm.MethodName)) ∈ lw_all := lw_g (lw_at lw_m4 15 rfl) rfl
theorem q777 : (Jvm.Cond.methodLink "BellLotsLaw" (125 : Nat) ({ cls := "BellLots", name := "count", desc := "(I)I" } : Jvm.MethodName)) ∈ lw_all := lw_g (lw_at lw_m4 19 rfl) rfl
theorem q785 : (Jvm.Cond.methodLink "BellLotsLaw" (129 : Nat) ({ cls := "BellLots", name := "trace", desc := "()J" } : Jvm.MethodName)) ∈ lw_all := lw_g (lw_at lw_m4 27 rfl) rfl
theorem q789 : (Jvm.Cond.classLink "BellLotsLaw" (10 : Nat) "BellLotsModel") ∈ lw_all := lw_g (lw_at lw_m4 31 rfl) rfl
theorem q791 : (Jvm.Cond.methodLink "BellLotsLaw" (12 : Nat) ({ cls := "BellLotsModel", name := "<init>", desc := "()V" } : Jvm.MethodName)) ∈ lw_all := lw_g (lw_at lw_m4 33 rfl) rfl
theorem q883 : (Jvm.Cond.methodLink "BellLotsLaw" (17 : Nat) ({ cls := "BellLotsModel", name := "type", desc := "(I)I" } : Jvm.MethodName)) ∈ lw_all := lw_g (lw_at lw_m4 125 rfl) rfl
theorem q890 : (Jvm.Cond.methodLink "BellLotsLaw" (22 : Nat) ({ cls := "BellLotsModel", name := "clear", desc := "()I" } : Jvm.MethodName)) ∈ lw_all := lw_g (lw_at lw_m4 132 rfl) rfl
theorem q894 : (Jvm.Cond.methodLink "BellLotsLaw" (26 : Nat) ({ cls := "BellLotsModel", name := "plain", desc := "()I" } : Jvm.MethodName)) ∈ lw_all := lw_g (lw_at lw_m4 136 rfl) rfl
theorem q927 : (Jvm.Cond.methodLink "BellLotsLaw" (31 : Nat) ({ cls := "BellLotsModel", name := "town", desc := "(II)I" } : Jvm.MethodName)) ∈ lw_all := lw_g (lw_at lw_m4 169 rfl) rfl
theorem q942 : (Jvm.Cond.methodLink "BellLotsLaw" (35 : Nat) ({ cls := "BellLotsModel", name := "bell", desc := "(II)I" } : Jvm.MethodName)) ∈ lw_all := lw_g (lw_at lw_m4 184 rfl) rfl
theorem q950 : (Jvm.Cond.methodLink "BellLotsLaw" (39 : Nat) ({ cls := "BellLotsModel", name := "far", desc := "(II)I" } : Jvm.MethodName)) ∈ lw_all := lw_g (lw_at lw_m4 192 rfl) rfl
theorem q954 : (Jvm.Cond.methodLink "BellLotsLaw" (43 : Nat) ({ cls := "BellLotsModel", name := "oath", desc := "(II)I" } : Jvm.MethodName)) ∈ lw_all := lw_g (lw_at lw_m4 196 rfl) rfl
theorem q958 : (Jvm.Cond.methodLink "BellLotsLaw" (47 : Nat) ({ cls := "BellLotsModel", name := "now", desc := "(I)I" } : Jvm.MethodName)) ∈ lw_all := lw_g (lw_at lw_m4 200 rfl) rfl
theorem q962 : (Jvm.Cond.methodLink "BellLotsLaw" (51 : Nat) ({ cls := "BellLotsModel", name := "lots", desc := "(I)I" } : Jvm.MethodName)) ∈ lw_all := lw_g (lw_at lw_m4 204 rfl) rfl
theorem q986 : (Jvm.Cond.methodLink "BellLotsLaw" (55 : Nat) ({ cls := "BellLotsModel", name := "trades", desc := "(II)I" } : Jvm.MethodName)) ∈ lw_all := lw_g (lw_at lw_m4 228 rfl) rfl
theorem q990 : (Jvm.Cond.methodLink "BellLotsLaw" (59 : Nat) ({ cls := "BellLotsModel", name := "widens", desc := "(II)I" } : Jvm.MethodName)) ∈ lw_all := lw_g (lw_at lw_m4 232 rfl) rfl
theorem q994 : (Jvm.Cond.methodLink "BellLotsLaw" (63 : Nat) ({ cls := "BellLotsModel", name := "undo", desc := "()I" } : Jvm.MethodName)) ∈ lw_all := lw_g (lw_at lw_m4 236 rfl) rfl
theorem q998 : (Jvm.Cond.methodLink "BellLotsLaw" (68 : Nat) ({ cls := "BellLotsModel", name := "inLots", desc := "(III)I" } : Jvm.MethodName)) ∈ lw_all := lw_g (lw_at lw_m5 0 rfl) rfl
theorem q1006 : (Jvm.Cond.methodLink "BellLotsLaw" (72 : Nat) ({ cls := "BellLotsModel", name := "cost", desc := "(I)I" } : Jvm.MethodName)) ∈ lw_all := lw_g (lw_at lw_m5 8 rfl) rfl
theorem q1010 : (Jvm.Cond.methodLink "BellLotsLaw" (76 : Nat) ({ cls := "BellLotsModel", name := "home", desc := "(I)I" } : Jvm.MethodName)) ∈ lw_all := lw_g (lw_at lw_m5 12 rfl) rfl
theorem q1014 : (Jvm.Cond.methodLink "BellLotsLaw" (80 : Nat) ({ cls := "BellLotsModel", name := "hang", desc := "(I)I" } : Jvm.MethodName)) ∈ lw_all := lw_g (lw_at lw_m5 16 rfl) rfl
theorem q1034 : (Jvm.Cond.methodLink "BellLotsLaw" (84 : Nat) ({ cls := "BellLotsModel", name := "round", desc := "(I)I" } : Jvm.MethodName)) ∈ lw_all := lw_g (lw_at lw_m5 36 rfl) rfl
theorem q1038 : (Jvm.Cond.methodLink "BellLotsLaw" (88 : Nat) ({ cls := "BellLotsModel", name := "crossed", desc := "()I" } : Jvm.MethodName)) ∈ lw_all := lw_g (lw_at lw_m5 40 rfl) rfl
theorem q1042 : (Jvm.Cond.methodLink "BellLotsLaw" (92 : Nat) ({ cls := "BellLotsModel", name := "oaths", desc := "(I)I" } : Jvm.MethodName)) ∈ lw_all := lw_g (lw_at lw_m5 44 rfl) rfl
theorem q1046 : (Jvm.Cond.methodLink "BellLotsLaw" (96 : Nat) ({ cls := "BellLotsModel", name := "strokes", desc := "(II)I" } : Jvm.MethodName)) ∈ lw_all := lw_g (lw_at lw_m5 48 rfl) rfl
theorem q1050 : (Jvm.Cond.methodLink "BellLotsLaw" (100 : Nat) ({ cls := "BellLotsModel", name := "found", desc := "(II)I" } : Jvm.MethodName)) ∈ lw_all := lw_g (lw_at lw_m5 52 rfl) rfl
theorem q1054 : (Jvm.Cond.methodLink "BellLotsLaw" (104 : Nat) ({ cls := "BellLotsModel", name := "forget", desc := "()I" } : Jvm.MethodName)) ∈ lw_all := lw_g (lw_at lw_m5 56 rfl) rfl
theorem q1058 : (Jvm.Cond.methodLink "BellLotsLaw" (108 : Nat) ({ cls := "BellLotsModel", name := "which", desc := "(I)I" } : Jvm.MethodName)) ∈ lw_all := lw_g (lw_at lw_m5 60 rfl) rfl
theorem q1062 : (Jvm.Cond.methodLink "BellLotsLaw" (112 : Nat) ({ cls := "BellLotsModel", name := "odds", desc := "(I)I" } : Jvm.MethodName)) ∈ lw_all := lw_g (lw_at lw_m5 64 rfl) rfl
theorem q1069 : (Jvm.Cond.methodLink "BellLotsLaw" (116 : Nat) ({ cls := "BellLotsModel", name := "rate", desc := "(II)I" } : Jvm.MethodName)) ∈ lw_all := lw_g (lw_at lw_m5 71 rfl) rfl
theorem q1079 : (Jvm.Cond.methodLink "BellLotsLaw" (120 : Nat) ({ cls := "BellLotsModel", name := "keep", desc := "(I)I" } : Jvm.MethodName)) ∈ lw_all := lw_g (lw_at lw_m5 81 rfl) rfl
theorem q1083 : (Jvm.Cond.methodLink "BellLotsLaw" (124 : Nat) ({ cls := "BellLotsModel", name := "back", desc := "(I)I" } : Jvm.MethodName)) ∈ lw_all := lw_g (lw_at lw_m5 85 rfl) rfl
theorem q1087 : (Jvm.Cond.methodLink "BellLotsLaw" (128 : Nat) ({ cls := "BellLotsModel", name := "count", desc := "(I)I" } : Jvm.MethodName)) ∈ lw_all := lw_g (lw_at lw_m5 89 rfl) rfl
theorem q1095 : (Jvm.Cond.methodLink "BellLotsLaw" (133 : Nat) ({ cls := "BellLotsModel", name := "trace", desc := "()J" } : Jvm.MethodName)) ∈ lw_all := lw_g (lw_at lw_m5 97 rfl) rfl
theorem q61 : (Jvm.Cond.initialized "java/lang/System") ∈ lw_all := lw_g (lw_at lw_m1 23 rfl) rfl
set_option maxRecDepth 100000
theorem q627 : (Jvm.Cond.static ({ cls := "java/lang/System", name := "arraycopy", desc := "(Ljava/lang/Object;ILjava/lang/Object;II)V" } : Jvm.MethodName)) ∈ lw_all := lw_g (lw_at lw_m3 109 rfl) rfl
theorem q628 : (Jvm.Cond.native ({ cls := "java/lang/System", name := "arraycopy", desc := "(Ljava/lang/Object;ILjava/lang/Object;II)V" } : Jvm.MethodName)) ∈ lw_all := lw_g (lw_at lw_m3 110 rfl) rfl
