/-! BellLotsModel -/
set_option maxRecDepth 100000
def RX9 : String := "BellLotsModel"
def TX9 : u_T := fun k => match k with
  | 0 => ("BellLotsModel", "thrown", "I", false)
  | 1 => ("BellLotsModel", "trace", "J", false)
  | 2 => ("BellLotsModel", "text", "[I", true)
  | 3 => ("BellLotsModel", "typed", "I", false)
  | 4 => ("BellLotsModel", "next", "I", false)
  | 5 => ("BellLotsModel", "token", "I", false)
  | 6 => ("BellLotsModel", "place", "I", false)
  | 7 => ("BellLotsModel", "value", "I", false)
  | 8 => ("BellLotsModel", "fault", "I", false)
  | 9 => ("BellLotsModel", "many", "[I", true)
  | 10 => ("BellLotsModel", "bears", "[I", true)
  | 11 => ("BellLotsModel", "weight", "[I", true)
  | 12 => ("BellLotsModel", "note", "[I", true)
  | 13 => ("BellLotsModel", "toll", "[I", true)
  | 14 => ("BellLotsModel", "oathBell", "[I", true)
  | 15 => ("BellLotsModel", "oathTown", "[I", true)
  | 16 => ("BellLotsModel", "oathTerm", "[I", true)
  | 17 => ("BellLotsModel", "far", "[I", true)
  | 18 => ("BellLotsModel", "s", "[I", true)
  | 19 => ("BellLotsModel", "w", "[I", true)
  | 20 => ("BellLotsModel", "kept", "[I", true)
  | 21 => ("BellLotsModel", "isKept", "[Z", true)
  | 22 => ("BellLotsModel", "undos", "[I", true)
  | 23 => ("BellLotsModel", "undoMany", "I", false)
  | 24 => ("BellLotsModel", "foundBell", "[I", true)
  | 25 => ("BellLotsModel", "foundTown", "[I", true)
  | 26 => ("BellLotsModel", "foundMany", "I", false)
  | 27 => ("BellLotsModel", "goes", "[I", true)
  | _ => ("BellLotsModel", "best", "[I", true)
def tyX9 : Nat → FieldType := fun k => match k with
  | 0 => .int
  | 1 => .long
  | 2 => .array .int
  | 3 => .int
  | 4 => .int
  | 5 => .int
  | 6 => .int
  | 7 => .int
  | 8 => .int
  | 9 => .array .int
  | 10 => .array .int
  | 11 => .array .int
  | 12 => .array .int
  | 13 => .array .int
  | 14 => .array .int
  | 15 => .array .int
  | 16 => .array .int
  | 17 => .array .int
  | 18 => .array .int
  | 19 => .array .int
  | 20 => .array .int
  | 21 => .array .boolean
  | 22 => .array .int
  | 23 => .int
  | 24 => .array .int
  | 25 => .array .int
  | 26 => .int
  | 27 => .array .int
  | _ => .array .int
abbrev wsX90 : List Cond := u_ws RX9 TX9 29
set_option maxRecDepth 100000 in
theorem nmX9 : ∀ a, a < 29 → ∀ b, b < 29 → a ≠ b → (TX9 a).2.1 ≠ (TX9 b).2.1 := by decide +kernel
set_option maxRecDepth 100000 in
theorem tyX9_ok : ∀ k, k < 29 → parseFieldDescriptor (TX9 k).2.2.1 = some (tyX9 k) := by decide +kernel
abbrev cX9_init : ByteArray := prog_13_method_1_code
def yX9_init : MethodName := ⟨RX9, "<init>", "()V"⟩
def dkwX9_init_6 : List UInt8 := [181, 0, 62, 42, 16, 6, 188, 10, 181, 0, 65, 177]
abbrev dktX9_init_6 : List UInt8 := dkwX9_init_6 ++ []
def dkwX9_init_5 : List UInt8 := [188, 10, 181, 0, 53, 42, 8, 188, 10, 181, 0, 56, 42, 8, 188, 10, 181, 0, 59, 42, 16, 6, 188, 10]
abbrev dktX9_init_5 : List UInt8 := dkwX9_init_5 ++ dktX9_init_6
def dkwX9_init_4 : List UInt8 := [188, 10, 181, 0, 43, 42, 16, 112, 188, 10, 181, 0, 46, 42, 5, 188, 4, 181, 0, 49, 42, 17, 2, 48]
abbrev dktX9_init_4 : List UInt8 := dkwX9_init_4 ++ dktX9_init_5
def dkwX9_init_3 : List UInt8 := [188, 10, 181, 0, 34, 42, 16, 36, 188, 10, 181, 0, 37, 42, 16, 56, 188, 10, 181, 0, 40, 42, 16, 56]
abbrev dktX9_init_3 : List UInt8 := dkwX9_init_3 ++ dktX9_init_4
def dkwX9_init_2 : List UInt8 := [188, 10, 181, 0, 25, 42, 16, 12, 188, 10, 181, 0, 28, 42, 16, 12, 188, 10, 181, 0, 31, 42, 16, 12]
abbrev dktX9_init_2 : List UInt8 := dkwX9_init_2 ++ dktX9_init_3
def dkwX9_init_1 : List UInt8 := [188, 10, 181, 0, 16, 42, 16, 12, 188, 10, 181, 0, 19, 42, 16, 12, 188, 10, 181, 0, 22, 42, 16, 72]
abbrev dktX9_init_1 : List UInt8 := dkwX9_init_1 ++ dktX9_init_2
def dkwX9_init_0 : List UInt8 := [42, 183, 0, 1, 42, 17, 0, 200, 188, 10, 181, 0, 7, 42, 7, 188, 10, 181, 0, 13, 42, 16, 12]
abbrev dktX9_init_0 : List UInt8 := dkwX9_init_0 ++ dktX9_init_1
theorem dksX9_init_0 : cX9_init.data.toList.drop 0 = dktX9_init_0 := by decide +kernel
theorem dksX9_init_1 : cX9_init.data.toList.drop 23 = dktX9_init_1 := dk_seg dksX9_init_0 23 rfl rfl
theorem dksX9_init_2 : cX9_init.data.toList.drop 47 = dktX9_init_2 := dk_seg dksX9_init_1 24 rfl rfl
theorem dksX9_init_3 : cX9_init.data.toList.drop 71 = dktX9_init_3 := dk_seg dksX9_init_2 24 rfl rfl
theorem dksX9_init_4 : cX9_init.data.toList.drop 95 = dktX9_init_4 := dk_seg dksX9_init_3 24 rfl rfl
theorem dksX9_init_5 : cX9_init.data.toList.drop 119 = dktX9_init_5 := dk_seg dksX9_init_4 24 rfl rfl
theorem dksX9_init_6 : cX9_init.data.toList.drop 143 = dktX9_init_6 := dk_seg dksX9_init_5 24 rfl rfl
theorem dX9_init_0 : decode cX9_init 0 = .ok (.aload_n 0, 1) := dk_42 (dk_at dksX9_init_0 0 rfl rfl)
theorem dX9_init_1 : decode cX9_init 1 = .ok (.invokespecial 1, 3) := dk_183 0 1 (dk_at dksX9_init_0 1 rfl rfl)
theorem dX9_init_4 : decode cX9_init 4 = .ok (.aload_n 0, 1) := dk_42 (dk_at dksX9_init_0 4 rfl rfl)
theorem dX9_init_5 : decode cX9_init 5 = .ok (.sipush 200, 3) := dk_17 0 200 (dk_at dksX9_init_0 5 rfl rfl)
theorem dX9_init_8 : decode cX9_init 8 = .ok (.newarray .int, 2) := dk_188_10 (dk_at dksX9_init_0 8 rfl rfl)
theorem dX9_init_10 : decode cX9_init 10 = .ok (.putfield 7, 3) := dk_181 0 7 (dk_at dksX9_init_0 10 rfl rfl)
theorem dX9_init_13 : decode cX9_init 13 = .ok (.aload_n 0, 1) := dk_42 (dk_at dksX9_init_0 13 rfl rfl)
theorem dX9_init_14 : decode cX9_init 14 = .ok (.iconst 4, 1) := dk_7 (dk_at dksX9_init_0 14 rfl rfl)
theorem dX9_init_15 : decode cX9_init 15 = .ok (.newarray .int, 2) := dk_188_10 (dk_at dksX9_init_0 15 rfl rfl)
theorem dX9_init_17 : decode cX9_init 17 = .ok (.putfield 13, 3) := dk_181 0 13 (dk_at dksX9_init_0 17 rfl rfl)
theorem dX9_init_20 : decode cX9_init 20 = .ok (.aload_n 0, 1) := dk_42 (dk_at dksX9_init_0 20 rfl rfl)
theorem dX9_init_21 : decode cX9_init 21 = .ok (.bipush 12, 2) := dk_16 12 (dk_at dksX9_init_0 21 rfl rfl)
theorem dX9_init_23 : decode cX9_init 23 = .ok (.newarray .int, 2) := dk_188_10 (dk_at dksX9_init_1 0 rfl rfl)
theorem dX9_init_25 : decode cX9_init 25 = .ok (.putfield 16, 3) := dk_181 0 16 (dk_at dksX9_init_1 2 rfl rfl)
theorem dX9_init_28 : decode cX9_init 28 = .ok (.aload_n 0, 1) := dk_42 (dk_at dksX9_init_1 5 rfl rfl)
theorem dX9_init_29 : decode cX9_init 29 = .ok (.bipush 12, 2) := dk_16 12 (dk_at dksX9_init_1 6 rfl rfl)
theorem dX9_init_31 : decode cX9_init 31 = .ok (.newarray .int, 2) := dk_188_10 (dk_at dksX9_init_1 8 rfl rfl)
theorem dX9_init_33 : decode cX9_init 33 = .ok (.putfield 19, 3) := dk_181 0 19 (dk_at dksX9_init_1 10 rfl rfl)
theorem dX9_init_36 : decode cX9_init 36 = .ok (.aload_n 0, 1) := dk_42 (dk_at dksX9_init_1 13 rfl rfl)
theorem dX9_init_37 : decode cX9_init 37 = .ok (.bipush 12, 2) := dk_16 12 (dk_at dksX9_init_1 14 rfl rfl)
theorem dX9_init_39 : decode cX9_init 39 = .ok (.newarray .int, 2) := dk_188_10 (dk_at dksX9_init_1 16 rfl rfl)
theorem dX9_init_41 : decode cX9_init 41 = .ok (.putfield 22, 3) := dk_181 0 22 (dk_at dksX9_init_1 18 rfl rfl)
theorem dX9_init_44 : decode cX9_init 44 = .ok (.aload_n 0, 1) := dk_42 (dk_at dksX9_init_1 21 rfl rfl)
theorem dX9_init_45 : decode cX9_init 45 = .ok (.bipush 72, 2) := dk_16 72 (dk_at dksX9_init_1 22 rfl rfl)
theorem dX9_init_47 : decode cX9_init 47 = .ok (.newarray .int, 2) := dk_188_10 (dk_at dksX9_init_2 0 rfl rfl)
theorem dX9_init_49 : decode cX9_init 49 = .ok (.putfield 25, 3) := dk_181 0 25 (dk_at dksX9_init_2 2 rfl rfl)
theorem dX9_init_52 : decode cX9_init 52 = .ok (.aload_n 0, 1) := dk_42 (dk_at dksX9_init_2 5 rfl rfl)
theorem dX9_init_53 : decode cX9_init 53 = .ok (.bipush 12, 2) := dk_16 12 (dk_at dksX9_init_2 6 rfl rfl)
theorem dX9_init_55 : decode cX9_init 55 = .ok (.newarray .int, 2) := dk_188_10 (dk_at dksX9_init_2 8 rfl rfl)
theorem dX9_init_57 : decode cX9_init 57 = .ok (.putfield 28, 3) := dk_181 0 28 (dk_at dksX9_init_2 10 rfl rfl)
theorem dX9_init_60 : decode cX9_init 60 = .ok (.aload_n 0, 1) := dk_42 (dk_at dksX9_init_2 13 rfl rfl)
theorem dX9_init_61 : decode cX9_init 61 = .ok (.bipush 12, 2) := dk_16 12 (dk_at dksX9_init_2 14 rfl rfl)
theorem dX9_init_63 : decode cX9_init 63 = .ok (.newarray .int, 2) := dk_188_10 (dk_at dksX9_init_2 16 rfl rfl)
theorem dX9_init_65 : decode cX9_init 65 = .ok (.putfield 31, 3) := dk_181 0 31 (dk_at dksX9_init_2 18 rfl rfl)
theorem dX9_init_68 : decode cX9_init 68 = .ok (.aload_n 0, 1) := dk_42 (dk_at dksX9_init_2 21 rfl rfl)
theorem dX9_init_69 : decode cX9_init 69 = .ok (.bipush 12, 2) := dk_16 12 (dk_at dksX9_init_2 22 rfl rfl)
theorem dX9_init_71 : decode cX9_init 71 = .ok (.newarray .int, 2) := dk_188_10 (dk_at dksX9_init_3 0 rfl rfl)
theorem dX9_init_73 : decode cX9_init 73 = .ok (.putfield 34, 3) := dk_181 0 34 (dk_at dksX9_init_3 2 rfl rfl)
theorem dX9_init_76 : decode cX9_init 76 = .ok (.aload_n 0, 1) := dk_42 (dk_at dksX9_init_3 5 rfl rfl)
theorem dX9_init_77 : decode cX9_init 77 = .ok (.bipush 36, 2) := dk_16 36 (dk_at dksX9_init_3 6 rfl rfl)
theorem dX9_init_79 : decode cX9_init 79 = .ok (.newarray .int, 2) := dk_188_10 (dk_at dksX9_init_3 8 rfl rfl)
theorem dX9_init_81 : decode cX9_init 81 = .ok (.putfield 37, 3) := dk_181 0 37 (dk_at dksX9_init_3 10 rfl rfl)
theorem dX9_init_84 : decode cX9_init 84 = .ok (.aload_n 0, 1) := dk_42 (dk_at dksX9_init_3 13 rfl rfl)
theorem dX9_init_85 : decode cX9_init 85 = .ok (.bipush 56, 2) := dk_16 56 (dk_at dksX9_init_3 14 rfl rfl)
theorem dX9_init_87 : decode cX9_init 87 = .ok (.newarray .int, 2) := dk_188_10 (dk_at dksX9_init_3 16 rfl rfl)
theorem dX9_init_89 : decode cX9_init 89 = .ok (.putfield 40, 3) := dk_181 0 40 (dk_at dksX9_init_3 18 rfl rfl)
theorem dX9_init_92 : decode cX9_init 92 = .ok (.aload_n 0, 1) := dk_42 (dk_at dksX9_init_3 21 rfl rfl)
theorem dX9_init_93 : decode cX9_init 93 = .ok (.bipush 56, 2) := dk_16 56 (dk_at dksX9_init_3 22 rfl rfl)
theorem dX9_init_95 : decode cX9_init 95 = .ok (.newarray .int, 2) := dk_188_10 (dk_at dksX9_init_4 0 rfl rfl)
theorem dX9_init_97 : decode cX9_init 97 = .ok (.putfield 43, 3) := dk_181 0 43 (dk_at dksX9_init_4 2 rfl rfl)
theorem dX9_init_100 : decode cX9_init 100 = .ok (.aload_n 0, 1) := dk_42 (dk_at dksX9_init_4 5 rfl rfl)
theorem dX9_init_101 : decode cX9_init 101 = .ok (.bipush 112, 2) := dk_16 112 (dk_at dksX9_init_4 6 rfl rfl)
theorem dX9_init_103 : decode cX9_init 103 = .ok (.newarray .int, 2) := dk_188_10 (dk_at dksX9_init_4 8 rfl rfl)
theorem dX9_init_105 : decode cX9_init 105 = .ok (.putfield 46, 3) := dk_181 0 46 (dk_at dksX9_init_4 10 rfl rfl)
theorem dX9_init_108 : decode cX9_init 108 = .ok (.aload_n 0, 1) := dk_42 (dk_at dksX9_init_4 13 rfl rfl)
theorem dX9_init_109 : decode cX9_init 109 = .ok (.iconst 2, 1) := dk_5 (dk_at dksX9_init_4 14 rfl rfl)
theorem dX9_init_110 : decode cX9_init 110 = .ok (.newarray .boolean, 2) := dk_188_4 (dk_at dksX9_init_4 15 rfl rfl)
theorem dX9_init_112 : decode cX9_init 112 = .ok (.putfield 49, 3) := dk_181 0 49 (dk_at dksX9_init_4 17 rfl rfl)
theorem dX9_init_115 : decode cX9_init 115 = .ok (.aload_n 0, 1) := dk_42 (dk_at dksX9_init_4 20 rfl rfl)
theorem dX9_init_116 : decode cX9_init 116 = .ok (.sipush 560, 3) := dk_17 2 48 (dk_at dksX9_init_4 21 rfl rfl)
theorem dX9_init_119 : decode cX9_init 119 = .ok (.newarray .int, 2) := dk_188_10 (dk_at dksX9_init_5 0 rfl rfl)
theorem dX9_init_121 : decode cX9_init 121 = .ok (.putfield 53, 3) := dk_181 0 53 (dk_at dksX9_init_5 2 rfl rfl)
theorem dX9_init_124 : decode cX9_init 124 = .ok (.aload_n 0, 1) := dk_42 (dk_at dksX9_init_5 5 rfl rfl)
theorem dX9_init_125 : decode cX9_init 125 = .ok (.iconst 5, 1) := dk_8 (dk_at dksX9_init_5 6 rfl rfl)
theorem dX9_init_126 : decode cX9_init 126 = .ok (.newarray .int, 2) := dk_188_10 (dk_at dksX9_init_5 7 rfl rfl)
theorem dX9_init_128 : decode cX9_init 128 = .ok (.putfield 56, 3) := dk_181 0 56 (dk_at dksX9_init_5 9 rfl rfl)
theorem dX9_init_131 : decode cX9_init 131 = .ok (.aload_n 0, 1) := dk_42 (dk_at dksX9_init_5 12 rfl rfl)
theorem dX9_init_132 : decode cX9_init 132 = .ok (.iconst 5, 1) := dk_8 (dk_at dksX9_init_5 13 rfl rfl)
theorem dX9_init_133 : decode cX9_init 133 = .ok (.newarray .int, 2) := dk_188_10 (dk_at dksX9_init_5 14 rfl rfl)
theorem dX9_init_135 : decode cX9_init 135 = .ok (.putfield 59, 3) := dk_181 0 59 (dk_at dksX9_init_5 16 rfl rfl)
theorem dX9_init_138 : decode cX9_init 138 = .ok (.aload_n 0, 1) := dk_42 (dk_at dksX9_init_5 19 rfl rfl)
theorem dX9_init_139 : decode cX9_init 139 = .ok (.bipush 6, 2) := dk_16 6 (dk_at dksX9_init_5 20 rfl rfl)
theorem dX9_init_141 : decode cX9_init 141 = .ok (.newarray .int, 2) := dk_188_10 (dk_at dksX9_init_5 22 rfl rfl)
theorem dX9_init_143 : decode cX9_init 143 = .ok (.putfield 62, 3) := dk_181 0 62 (dk_at dksX9_init_6 0 rfl rfl)
theorem dX9_init_146 : decode cX9_init 146 = .ok (.aload_n 0, 1) := dk_42 (dk_at dksX9_init_6 3 rfl rfl)
theorem dX9_init_147 : decode cX9_init 147 = .ok (.bipush 6, 2) := dk_16 6 (dk_at dksX9_init_6 4 rfl rfl)
theorem dX9_init_149 : decode cX9_init 149 = .ok (.newarray .int, 2) := dk_188_10 (dk_at dksX9_init_6 6 rfl rfl)
theorem dX9_init_151 : decode cX9_init 151 = .ok (.putfield 65, 3) := dk_181 0 65 (dk_at dksX9_init_6 8 rfl rfl)
theorem dX9_init_154 : decode cX9_init 154 = .ok (.return_, 1) := dk_177 (dk_at dksX9_init_6 11 rfl rfl)
abbrev cX9_type : ByteArray := prog_13_method_4_code
def yX9_type : MethodName := ⟨RX9, "type", "(I)I"⟩
def dkwX9_type_2 : List UInt8 := [4, 96, 181, 0, 76, 42, 180, 0, 76, 172]
abbrev dktX9_type_2 : List UInt8 := dkwX9_type_2 ++ []
def dkwX9_type_1 : List UInt8 := [17, 0, 200, 160, 0, 6, 16, 253, 172, 42, 180, 0, 7, 42, 180, 0, 76, 27, 79, 42, 89, 180, 0, 76]
abbrev dktX9_type_1 : List UInt8 := dkwX9_type_1 ++ dktX9_type_2
def dkwX9_type_0 : List UInt8 := [42, 3, 181, 0, 68, 27, 3, 17, 0, 255, 184, 0, 72, 154, 0, 5, 2, 172, 42, 180, 0, 76]
abbrev dktX9_type_0 : List UInt8 := dkwX9_type_0 ++ dktX9_type_1
theorem dksX9_type_0 : cX9_type.data.toList.drop 0 = dktX9_type_0 := by decide +kernel
theorem dksX9_type_1 : cX9_type.data.toList.drop 22 = dktX9_type_1 := dk_seg dksX9_type_0 22 rfl rfl
theorem dksX9_type_2 : cX9_type.data.toList.drop 46 = dktX9_type_2 := dk_seg dksX9_type_1 24 rfl rfl
theorem dX9_type_0 : decode cX9_type 0 = .ok (.aload_n 0, 1) := dk_42 (dk_at dksX9_type_0 0 rfl rfl)
theorem dX9_type_1 : decode cX9_type 1 = .ok (.iconst 0, 1) := dk_3 (dk_at dksX9_type_0 1 rfl rfl)
theorem dX9_type_2 : decode cX9_type 2 = .ok (.putfield 68, 3) := dk_181 0 68 (dk_at dksX9_type_0 2 rfl rfl)
theorem dX9_type_5 : decode cX9_type 5 = .ok (.iload_n 1, 1) := dk_27 (dk_at dksX9_type_0 5 rfl rfl)
theorem dX9_type_6 : decode cX9_type 6 = .ok (.iconst 0, 1) := dk_3 (dk_at dksX9_type_0 6 rfl rfl)
theorem dX9_type_7 : decode cX9_type 7 = .ok (.sipush 255, 3) := dk_17 0 255 (dk_at dksX9_type_0 7 rfl rfl)
theorem dX9_type_10 : decode cX9_type 10 = .ok (.invokestatic 72, 3) := dk_184 0 72 (dk_at dksX9_type_0 10 rfl rfl)
theorem dX9_type_13 : decode cX9_type 13 = .ok (.ifCond .ne 5, 3) := dk_154 0 5 (dk_at dksX9_type_0 13 rfl rfl)
theorem dX9_type_16 : decode cX9_type 16 = .ok (.iconst (-1), 1) := dk_2 (dk_at dksX9_type_0 16 rfl rfl)
theorem dX9_type_17 : decode cX9_type 17 = .ok (.ireturn, 1) := dk_172 (dk_at dksX9_type_0 17 rfl rfl)
theorem dX9_type_18 : decode cX9_type 18 = .ok (.aload_n 0, 1) := dk_42 (dk_at dksX9_type_0 18 rfl rfl)
theorem dX9_type_19 : decode cX9_type 19 = .ok (.getfield 76, 3) := dk_180 0 76 (dk_at dksX9_type_0 19 rfl rfl)
theorem dX9_type_22 : decode cX9_type 22 = .ok (.sipush 200, 3) := dk_17 0 200 (dk_at dksX9_type_1 0 rfl rfl)
theorem dX9_type_25 : decode cX9_type 25 = .ok (.if_icmp .ne 6, 3) := dk_160 0 6 (dk_at dksX9_type_1 3 rfl rfl)
theorem dX9_type_28 : decode cX9_type 28 = .ok (.bipush (-3), 2) := dk_16 253 (dk_at dksX9_type_1 6 rfl rfl)
theorem dX9_type_30 : decode cX9_type 30 = .ok (.ireturn, 1) := dk_172 (dk_at dksX9_type_1 8 rfl rfl)
theorem dX9_type_31 : decode cX9_type 31 = .ok (.aload_n 0, 1) := dk_42 (dk_at dksX9_type_1 9 rfl rfl)
theorem dX9_type_32 : decode cX9_type 32 = .ok (.getfield 7, 3) := dk_180 0 7 (dk_at dksX9_type_1 10 rfl rfl)
theorem dX9_type_35 : decode cX9_type 35 = .ok (.aload_n 0, 1) := dk_42 (dk_at dksX9_type_1 13 rfl rfl)
theorem dX9_type_36 : decode cX9_type 36 = .ok (.getfield 76, 3) := dk_180 0 76 (dk_at dksX9_type_1 14 rfl rfl)
theorem dX9_type_39 : decode cX9_type 39 = .ok (.iload_n 1, 1) := dk_27 (dk_at dksX9_type_1 17 rfl rfl)
theorem dX9_type_40 : decode cX9_type 40 = .ok (.iastore, 1) := dk_79 (dk_at dksX9_type_1 18 rfl rfl)
theorem dX9_type_41 : decode cX9_type 41 = .ok (.aload_n 0, 1) := dk_42 (dk_at dksX9_type_1 19 rfl rfl)
theorem dX9_type_42 : decode cX9_type 42 = .ok (.dup, 1) := dk_89 (dk_at dksX9_type_1 20 rfl rfl)
theorem dX9_type_43 : decode cX9_type 43 = .ok (.getfield 76, 3) := dk_180 0 76 (dk_at dksX9_type_1 21 rfl rfl)
theorem dX9_type_46 : decode cX9_type 46 = .ok (.iconst 1, 1) := dk_4 (dk_at dksX9_type_2 0 rfl rfl)
theorem dX9_type_47 : decode cX9_type 47 = .ok (.iadd, 1) := dk_96 (dk_at dksX9_type_2 1 rfl rfl)
theorem dX9_type_48 : decode cX9_type 48 = .ok (.putfield 76, 3) := dk_181 0 76 (dk_at dksX9_type_2 2 rfl rfl)
theorem dX9_type_51 : decode cX9_type 51 = .ok (.aload_n 0, 1) := dk_42 (dk_at dksX9_type_2 5 rfl rfl)
theorem dX9_type_52 : decode cX9_type 52 = .ok (.getfield 76, 3) := dk_180 0 76 (dk_at dksX9_type_2 6 rfl rfl)
theorem dX9_type_55 : decode cX9_type 55 = .ok (.ireturn, 1) := dk_172 (dk_at dksX9_type_2 9 rfl rfl)
abbrev cX9_in : ByteArray := prog_13_method_3_code
def yX9_in : MethodName := ⟨RX9, "in", "(III)Z"⟩
def dkwX9_in_0 : List UInt8 := [26, 27, 161, 0, 12, 26, 28, 163, 0, 7, 4, 167, 0, 4, 3, 172]
abbrev dktX9_in_0 : List UInt8 := dkwX9_in_0 ++ []
theorem dksX9_in_0 : cX9_in.data.toList.drop 0 = dktX9_in_0 := by decide +kernel
theorem dX9_in_0 : decode cX9_in 0 = .ok (.iload_n 0, 1) := dk_26 (dk_at dksX9_in_0 0 rfl rfl)
theorem dX9_in_1 : decode cX9_in 1 = .ok (.iload_n 1, 1) := dk_27 (dk_at dksX9_in_0 1 rfl rfl)
theorem dX9_in_2 : decode cX9_in 2 = .ok (.if_icmp .lt 12, 3) := dk_161 0 12 (dk_at dksX9_in_0 2 rfl rfl)
theorem dX9_in_5 : decode cX9_in 5 = .ok (.iload_n 0, 1) := dk_26 (dk_at dksX9_in_0 5 rfl rfl)
theorem dX9_in_6 : decode cX9_in 6 = .ok (.iload_n 2, 1) := dk_28 (dk_at dksX9_in_0 6 rfl rfl)
theorem dX9_in_7 : decode cX9_in 7 = .ok (.if_icmp .gt 7, 3) := dk_163 0 7 (dk_at dksX9_in_0 7 rfl rfl)
theorem dX9_in_10 : decode cX9_in 10 = .ok (.iconst 1, 1) := dk_4 (dk_at dksX9_in_0 10 rfl rfl)
theorem dX9_in_11 : decode cX9_in 11 = .ok (.goto 4, 3) := dk_167 0 4 (dk_at dksX9_in_0 11 rfl rfl)
theorem dX9_in_14 : decode cX9_in 14 = .ok (.iconst 0, 1) := dk_3 (dk_at dksX9_in_0 14 rfl rfl)
theorem dX9_in_15 : decode cX9_in 15 = .ok (.ireturn, 1) := dk_172 (dk_at dksX9_in_0 15 rfl rfl)
abbrev cX9_clear : ByteArray := prog_13_method_5_code
def yX9_clear : MethodName := ⟨RX9, "clear", "()I"⟩
def dkwX9_clear_0 : List UInt8 := [42, 3, 181, 0, 68, 42, 180, 0, 76, 60, 42, 3, 181, 0, 76, 27, 172]
abbrev dktX9_clear_0 : List UInt8 := dkwX9_clear_0 ++ []
theorem dksX9_clear_0 : cX9_clear.data.toList.drop 0 = dktX9_clear_0 := by decide +kernel
theorem dX9_clear_0 : decode cX9_clear 0 = .ok (.aload_n 0, 1) := dk_42 (dk_at dksX9_clear_0 0 rfl rfl)
theorem dX9_clear_1 : decode cX9_clear 1 = .ok (.iconst 0, 1) := dk_3 (dk_at dksX9_clear_0 1 rfl rfl)
theorem dX9_clear_2 : decode cX9_clear 2 = .ok (.putfield 68, 3) := dk_181 0 68 (dk_at dksX9_clear_0 2 rfl rfl)
theorem dX9_clear_5 : decode cX9_clear 5 = .ok (.aload_n 0, 1) := dk_42 (dk_at dksX9_clear_0 5 rfl rfl)
theorem dX9_clear_6 : decode cX9_clear 6 = .ok (.getfield 76, 3) := dk_180 0 76 (dk_at dksX9_clear_0 6 rfl rfl)
theorem dX9_clear_9 : decode cX9_clear 9 = .ok (.istore_n 1, 1) := dk_60 (dk_at dksX9_clear_0 9 rfl rfl)
theorem dX9_clear_10 : decode cX9_clear 10 = .ok (.aload_n 0, 1) := dk_42 (dk_at dksX9_clear_0 10 rfl rfl)
theorem dX9_clear_11 : decode cX9_clear 11 = .ok (.iconst 0, 1) := dk_3 (dk_at dksX9_clear_0 11 rfl rfl)
theorem dX9_clear_12 : decode cX9_clear 12 = .ok (.putfield 76, 3) := dk_181 0 76 (dk_at dksX9_clear_0 12 rfl rfl)
theorem dX9_clear_15 : decode cX9_clear 15 = .ok (.iload_n 1, 1) := dk_27 (dk_at dksX9_clear_0 15 rfl rfl)
theorem dX9_clear_16 : decode cX9_clear 16 = .ok (.ireturn, 1) := dk_172 (dk_at dksX9_clear_0 16 rfl rfl)
abbrev cX9_plain : ByteArray := prog_13_method_12_code
def yX9_plain : MethodName := ⟨RX9, "plain", "()I"⟩
def dkwX9_plain_7 : List UInt8 := [167, 255, 148, 42, 182, 0, 98, 154, 0, 11, 16, 246, 42, 180, 0, 95, 100, 172, 42, 182, 0, 117, 27, 172]
abbrev dktX9_plain_7 : List UInt8 := dkwX9_plain_7 ++ []
def dkwX9_plain_6 : List UInt8 := [182, 0, 113, 42, 42, 180, 0, 89, 6, 160, 0, 7, 4, 167, 0, 4, 3, 182, 0, 105, 87, 132, 1, 1]
abbrev dktX9_plain_6 : List UInt8 := dkwX9_plain_6 ++ dktX9_plain_7
def dkwX9_plain_5 : List UInt8 := [16, 6, 162, 0, 7, 4, 167, 0, 4, 3, 182, 0, 105, 61, 42, 182, 0, 98, 153, 0, 8, 42, 28]
abbrev dktX9_plain_5 : List UInt8 := dkwX9_plain_5 ++ dktX9_plain_6
def dkwX9_plain_4 : List UInt8 := [16, 6, 162, 0, 30, 167, 0, 23, 42, 180, 0, 92, 16, 100, 159, 0, 14, 42, 180, 0, 13, 6, 46]
abbrev dktX9_plain_4 : List UInt8 := dkwX9_plain_4 ++ dktX9_plain_5
def dkwX9_plain_3 : List UInt8 := [42, 42, 180, 0, 89, 4, 160, 0, 50, 42, 180, 0, 92, 16, 116, 160, 0, 17, 42, 180, 0, 13, 5, 46]
abbrev dktX9_plain_3 : List UInt8 := dkwX9_plain_3 ++ dktX9_plain_4
def dkwX9_plain_2 : List UInt8 := [132, 2, 1, 167, 255, 240, 42, 182, 0, 102, 42, 182, 0, 98, 153, 0, 107, 42, 180, 0, 89, 153, 0, 100]
abbrev dktX9_plain_2 : List UInt8 := dkwX9_plain_2 ++ dktX9_plain_3
def dkwX9_plain_1 : List UInt8 := [42, 180, 0, 13, 6, 3, 79, 16, 36, 61, 28, 16, 72, 162, 0, 16, 42, 180, 0, 25, 28, 3, 79]
abbrev dktX9_plain_1 : List UInt8 := dkwX9_plain_1 ++ dktX9_plain_2
def dkwX9_plain_0 : List UInt8 := [42, 3, 181, 0, 68, 42, 2, 181, 0, 95, 42, 3, 181, 0, 79, 3, 60, 42, 180, 0, 13, 5, 3, 79]
abbrev dktX9_plain_0 : List UInt8 := dkwX9_plain_0 ++ dktX9_plain_1
theorem dksX9_plain_0 : cX9_plain.data.toList.drop 0 = dktX9_plain_0 := by decide +kernel
theorem dksX9_plain_1 : cX9_plain.data.toList.drop 24 = dktX9_plain_1 := dk_seg dksX9_plain_0 24 rfl rfl
theorem dksX9_plain_2 : cX9_plain.data.toList.drop 47 = dktX9_plain_2 := dk_seg dksX9_plain_1 23 rfl rfl
theorem dksX9_plain_3 : cX9_plain.data.toList.drop 71 = dktX9_plain_3 := dk_seg dksX9_plain_2 24 rfl rfl
theorem dksX9_plain_4 : cX9_plain.data.toList.drop 95 = dktX9_plain_4 := dk_seg dksX9_plain_3 24 rfl rfl
theorem dksX9_plain_5 : cX9_plain.data.toList.drop 118 = dktX9_plain_5 := dk_seg dksX9_plain_4 23 rfl rfl
theorem dksX9_plain_6 : cX9_plain.data.toList.drop 141 = dktX9_plain_6 := dk_seg dksX9_plain_5 23 rfl rfl
theorem dksX9_plain_7 : cX9_plain.data.toList.drop 165 = dktX9_plain_7 := dk_seg dksX9_plain_6 24 rfl rfl
theorem dX9_plain_0 : decode cX9_plain 0 = .ok (.aload_n 0, 1) := dk_42 (dk_at dksX9_plain_0 0 rfl rfl)
theorem dX9_plain_1 : decode cX9_plain 1 = .ok (.iconst 0, 1) := dk_3 (dk_at dksX9_plain_0 1 rfl rfl)
theorem dX9_plain_2 : decode cX9_plain 2 = .ok (.putfield 68, 3) := dk_181 0 68 (dk_at dksX9_plain_0 2 rfl rfl)
theorem dX9_plain_5 : decode cX9_plain 5 = .ok (.aload_n 0, 1) := dk_42 (dk_at dksX9_plain_0 5 rfl rfl)
theorem dX9_plain_6 : decode cX9_plain 6 = .ok (.iconst (-1), 1) := dk_2 (dk_at dksX9_plain_0 6 rfl rfl)
theorem dX9_plain_7 : decode cX9_plain 7 = .ok (.putfield 95, 3) := dk_181 0 95 (dk_at dksX9_plain_0 7 rfl rfl)
theorem dX9_plain_10 : decode cX9_plain 10 = .ok (.aload_n 0, 1) := dk_42 (dk_at dksX9_plain_0 10 rfl rfl)
theorem dX9_plain_11 : decode cX9_plain 11 = .ok (.iconst 0, 1) := dk_3 (dk_at dksX9_plain_0 11 rfl rfl)
theorem dX9_plain_12 : decode cX9_plain 12 = .ok (.putfield 79, 3) := dk_181 0 79 (dk_at dksX9_plain_0 12 rfl rfl)
theorem dX9_plain_15 : decode cX9_plain 15 = .ok (.iconst 0, 1) := dk_3 (dk_at dksX9_plain_0 15 rfl rfl)
theorem dX9_plain_16 : decode cX9_plain 16 = .ok (.istore_n 1, 1) := dk_60 (dk_at dksX9_plain_0 16 rfl rfl)
theorem dX9_plain_17 : decode cX9_plain 17 = .ok (.aload_n 0, 1) := dk_42 (dk_at dksX9_plain_0 17 rfl rfl)
theorem dX9_plain_18 : decode cX9_plain 18 = .ok (.getfield 13, 3) := dk_180 0 13 (dk_at dksX9_plain_0 18 rfl rfl)
theorem dX9_plain_21 : decode cX9_plain 21 = .ok (.iconst 2, 1) := dk_5 (dk_at dksX9_plain_0 21 rfl rfl)
theorem dX9_plain_22 : decode cX9_plain 22 = .ok (.iconst 0, 1) := dk_3 (dk_at dksX9_plain_0 22 rfl rfl)
theorem dX9_plain_23 : decode cX9_plain 23 = .ok (.iastore, 1) := dk_79 (dk_at dksX9_plain_0 23 rfl rfl)
theorem dX9_plain_24 : decode cX9_plain 24 = .ok (.aload_n 0, 1) := dk_42 (dk_at dksX9_plain_1 0 rfl rfl)
theorem dX9_plain_25 : decode cX9_plain 25 = .ok (.getfield 13, 3) := dk_180 0 13 (dk_at dksX9_plain_1 1 rfl rfl)
theorem dX9_plain_28 : decode cX9_plain 28 = .ok (.iconst 3, 1) := dk_6 (dk_at dksX9_plain_1 4 rfl rfl)
theorem dX9_plain_29 : decode cX9_plain 29 = .ok (.iconst 0, 1) := dk_3 (dk_at dksX9_plain_1 5 rfl rfl)
theorem dX9_plain_30 : decode cX9_plain 30 = .ok (.iastore, 1) := dk_79 (dk_at dksX9_plain_1 6 rfl rfl)
theorem dX9_plain_31 : decode cX9_plain 31 = .ok (.bipush 36, 2) := dk_16 36 (dk_at dksX9_plain_1 7 rfl rfl)
theorem dX9_plain_33 : decode cX9_plain 33 = .ok (.istore_n 2, 1) := dk_61 (dk_at dksX9_plain_1 9 rfl rfl)
theorem dX9_plain_34 : decode cX9_plain 34 = .ok (.iload_n 2, 1) := dk_28 (dk_at dksX9_plain_1 10 rfl rfl)
theorem dX9_plain_35 : decode cX9_plain 35 = .ok (.bipush 72, 2) := dk_16 72 (dk_at dksX9_plain_1 11 rfl rfl)
theorem dX9_plain_37 : decode cX9_plain 37 = .ok (.if_icmp .ge 16, 3) := dk_162 0 16 (dk_at dksX9_plain_1 13 rfl rfl)
theorem dX9_plain_40 : decode cX9_plain 40 = .ok (.aload_n 0, 1) := dk_42 (dk_at dksX9_plain_1 16 rfl rfl)
theorem dX9_plain_41 : decode cX9_plain 41 = .ok (.getfield 25, 3) := dk_180 0 25 (dk_at dksX9_plain_1 17 rfl rfl)
theorem dX9_plain_44 : decode cX9_plain 44 = .ok (.iload_n 2, 1) := dk_28 (dk_at dksX9_plain_1 20 rfl rfl)
theorem dX9_plain_45 : decode cX9_plain 45 = .ok (.iconst 0, 1) := dk_3 (dk_at dksX9_plain_1 21 rfl rfl)
theorem dX9_plain_46 : decode cX9_plain 46 = .ok (.iastore, 1) := dk_79 (dk_at dksX9_plain_1 22 rfl rfl)
theorem dX9_plain_47 : decode cX9_plain 47 = .ok (.iinc 2 1, 3) := dk_132 2 1 (dk_at dksX9_plain_2 0 rfl rfl)
theorem dX9_plain_50 : decode cX9_plain 50 = .ok (.goto (-16), 3) := dk_167 255 240 (dk_at dksX9_plain_2 3 rfl rfl)
theorem dX9_plain_53 : decode cX9_plain 53 = .ok (.aload_n 0, 1) := dk_42 (dk_at dksX9_plain_2 6 rfl rfl)
theorem dX9_plain_54 : decode cX9_plain 54 = .ok (.invokevirtual 102, 3) := dk_182 0 102 (dk_at dksX9_plain_2 7 rfl rfl)
theorem dX9_plain_57 : decode cX9_plain 57 = .ok (.aload_n 0, 1) := dk_42 (dk_at dksX9_plain_2 10 rfl rfl)
theorem dX9_plain_58 : decode cX9_plain 58 = .ok (.invokevirtual 98, 3) := dk_182 0 98 (dk_at dksX9_plain_2 11 rfl rfl)
theorem dX9_plain_61 : decode cX9_plain 61 = .ok (.ifCond .eq 107, 3) := dk_153 0 107 (dk_at dksX9_plain_2 14 rfl rfl)
theorem dX9_plain_64 : decode cX9_plain 64 = .ok (.aload_n 0, 1) := dk_42 (dk_at dksX9_plain_2 17 rfl rfl)
theorem dX9_plain_65 : decode cX9_plain 65 = .ok (.getfield 89, 3) := dk_180 0 89 (dk_at dksX9_plain_2 18 rfl rfl)
theorem dX9_plain_68 : decode cX9_plain 68 = .ok (.ifCond .eq 100, 3) := dk_153 0 100 (dk_at dksX9_plain_2 21 rfl rfl)
theorem dX9_plain_71 : decode cX9_plain 71 = .ok (.aload_n 0, 1) := dk_42 (dk_at dksX9_plain_3 0 rfl rfl)
theorem dX9_plain_72 : decode cX9_plain 72 = .ok (.aload_n 0, 1) := dk_42 (dk_at dksX9_plain_3 1 rfl rfl)
theorem dX9_plain_73 : decode cX9_plain 73 = .ok (.getfield 89, 3) := dk_180 0 89 (dk_at dksX9_plain_3 2 rfl rfl)
theorem dX9_plain_76 : decode cX9_plain 76 = .ok (.iconst 1, 1) := dk_4 (dk_at dksX9_plain_3 5 rfl rfl)
theorem dX9_plain_77 : decode cX9_plain 77 = .ok (.if_icmp .ne 50, 3) := dk_160 0 50 (dk_at dksX9_plain_3 6 rfl rfl)
theorem dX9_plain_80 : decode cX9_plain 80 = .ok (.aload_n 0, 1) := dk_42 (dk_at dksX9_plain_3 9 rfl rfl)
theorem dX9_plain_81 : decode cX9_plain 81 = .ok (.getfield 92, 3) := dk_180 0 92 (dk_at dksX9_plain_3 10 rfl rfl)
theorem dX9_plain_84 : decode cX9_plain 84 = .ok (.bipush 116, 2) := dk_16 116 (dk_at dksX9_plain_3 13 rfl rfl)
theorem dX9_plain_86 : decode cX9_plain 86 = .ok (.if_icmp .ne 17, 3) := dk_160 0 17 (dk_at dksX9_plain_3 15 rfl rfl)
theorem dX9_plain_89 : decode cX9_plain 89 = .ok (.aload_n 0, 1) := dk_42 (dk_at dksX9_plain_3 18 rfl rfl)
theorem dX9_plain_90 : decode cX9_plain 90 = .ok (.getfield 13, 3) := dk_180 0 13 (dk_at dksX9_plain_3 19 rfl rfl)
theorem dX9_plain_93 : decode cX9_plain 93 = .ok (.iconst 2, 1) := dk_5 (dk_at dksX9_plain_3 22 rfl rfl)
theorem dX9_plain_94 : decode cX9_plain 94 = .ok (.iaload, 1) := dk_46 (dk_at dksX9_plain_3 23 rfl rfl)
theorem dX9_plain_95 : decode cX9_plain 95 = .ok (.bipush 6, 2) := dk_16 6 (dk_at dksX9_plain_4 0 rfl rfl)
theorem dX9_plain_97 : decode cX9_plain 97 = .ok (.if_icmp .ge 30, 3) := dk_162 0 30 (dk_at dksX9_plain_4 2 rfl rfl)
theorem dX9_plain_100 : decode cX9_plain 100 = .ok (.goto 23, 3) := dk_167 0 23 (dk_at dksX9_plain_4 5 rfl rfl)
theorem dX9_plain_103 : decode cX9_plain 103 = .ok (.aload_n 0, 1) := dk_42 (dk_at dksX9_plain_4 8 rfl rfl)
theorem dX9_plain_104 : decode cX9_plain 104 = .ok (.getfield 92, 3) := dk_180 0 92 (dk_at dksX9_plain_4 9 rfl rfl)
theorem dX9_plain_107 : decode cX9_plain 107 = .ok (.bipush 100, 2) := dk_16 100 (dk_at dksX9_plain_4 12 rfl rfl)
theorem dX9_plain_109 : decode cX9_plain 109 = .ok (.if_icmp .eq 14, 3) := dk_159 0 14 (dk_at dksX9_plain_4 14 rfl rfl)
theorem dX9_plain_112 : decode cX9_plain 112 = .ok (.aload_n 0, 1) := dk_42 (dk_at dksX9_plain_4 17 rfl rfl)
theorem dX9_plain_113 : decode cX9_plain 113 = .ok (.getfield 13, 3) := dk_180 0 13 (dk_at dksX9_plain_4 18 rfl rfl)
theorem dX9_plain_116 : decode cX9_plain 116 = .ok (.iconst 3, 1) := dk_6 (dk_at dksX9_plain_4 21 rfl rfl)
theorem dX9_plain_117 : decode cX9_plain 117 = .ok (.iaload, 1) := dk_46 (dk_at dksX9_plain_4 22 rfl rfl)
theorem dX9_plain_118 : decode cX9_plain 118 = .ok (.bipush 6, 2) := dk_16 6 (dk_at dksX9_plain_5 0 rfl rfl)
theorem dX9_plain_120 : decode cX9_plain 120 = .ok (.if_icmp .ge 7, 3) := dk_162 0 7 (dk_at dksX9_plain_5 2 rfl rfl)
theorem dX9_plain_123 : decode cX9_plain 123 = .ok (.iconst 1, 1) := dk_4 (dk_at dksX9_plain_5 5 rfl rfl)
theorem dX9_plain_124 : decode cX9_plain 124 = .ok (.goto 4, 3) := dk_167 0 4 (dk_at dksX9_plain_5 6 rfl rfl)
theorem dX9_plain_127 : decode cX9_plain 127 = .ok (.iconst 0, 1) := dk_3 (dk_at dksX9_plain_5 9 rfl rfl)
theorem dX9_plain_128 : decode cX9_plain 128 = .ok (.invokevirtual 105, 3) := dk_182 0 105 (dk_at dksX9_plain_5 10 rfl rfl)
theorem dX9_plain_131 : decode cX9_plain 131 = .ok (.istore_n 2, 1) := dk_61 (dk_at dksX9_plain_5 13 rfl rfl)
theorem dX9_plain_132 : decode cX9_plain 132 = .ok (.aload_n 0, 1) := dk_42 (dk_at dksX9_plain_5 14 rfl rfl)
theorem dX9_plain_133 : decode cX9_plain 133 = .ok (.invokevirtual 98, 3) := dk_182 0 98 (dk_at dksX9_plain_5 15 rfl rfl)
theorem dX9_plain_136 : decode cX9_plain 136 = .ok (.ifCond .eq 8, 3) := dk_153 0 8 (dk_at dksX9_plain_5 18 rfl rfl)
theorem dX9_plain_139 : decode cX9_plain 139 = .ok (.aload_n 0, 1) := dk_42 (dk_at dksX9_plain_5 21 rfl rfl)
theorem dX9_plain_140 : decode cX9_plain 140 = .ok (.iload_n 2, 1) := dk_28 (dk_at dksX9_plain_5 22 rfl rfl)
theorem dX9_plain_141 : decode cX9_plain 141 = .ok (.invokevirtual 113, 3) := dk_182 0 113 (dk_at dksX9_plain_6 0 rfl rfl)
theorem dX9_plain_144 : decode cX9_plain 144 = .ok (.aload_n 0, 1) := dk_42 (dk_at dksX9_plain_6 3 rfl rfl)
theorem dX9_plain_145 : decode cX9_plain 145 = .ok (.aload_n 0, 1) := dk_42 (dk_at dksX9_plain_6 4 rfl rfl)
theorem dX9_plain_146 : decode cX9_plain 146 = .ok (.getfield 89, 3) := dk_180 0 89 (dk_at dksX9_plain_6 5 rfl rfl)
theorem dX9_plain_149 : decode cX9_plain 149 = .ok (.iconst 3, 1) := dk_6 (dk_at dksX9_plain_6 8 rfl rfl)
theorem dX9_plain_150 : decode cX9_plain 150 = .ok (.if_icmp .ne 7, 3) := dk_160 0 7 (dk_at dksX9_plain_6 9 rfl rfl)
theorem dX9_plain_153 : decode cX9_plain 153 = .ok (.iconst 1, 1) := dk_4 (dk_at dksX9_plain_6 12 rfl rfl)
theorem dX9_plain_154 : decode cX9_plain 154 = .ok (.goto 4, 3) := dk_167 0 4 (dk_at dksX9_plain_6 13 rfl rfl)
theorem dX9_plain_157 : decode cX9_plain 157 = .ok (.iconst 0, 1) := dk_3 (dk_at dksX9_plain_6 16 rfl rfl)
theorem dX9_plain_158 : decode cX9_plain 158 = .ok (.invokevirtual 105, 3) := dk_182 0 105 (dk_at dksX9_plain_6 17 rfl rfl)
theorem dX9_plain_161 : decode cX9_plain 161 = .ok (.pop, 1) := dk_87 (dk_at dksX9_plain_6 20 rfl rfl)
theorem dX9_plain_162 : decode cX9_plain 162 = .ok (.iinc 1 1, 3) := dk_132 1 1 (dk_at dksX9_plain_6 21 rfl rfl)
theorem dX9_plain_165 : decode cX9_plain 165 = .ok (.goto (-108), 3) := dk_167 255 148 (dk_at dksX9_plain_7 0 rfl rfl)
theorem dX9_plain_168 : decode cX9_plain 168 = .ok (.aload_n 0, 1) := dk_42 (dk_at dksX9_plain_7 3 rfl rfl)
theorem dX9_plain_169 : decode cX9_plain 169 = .ok (.invokevirtual 98, 3) := dk_182 0 98 (dk_at dksX9_plain_7 4 rfl rfl)
theorem dX9_plain_172 : decode cX9_plain 172 = .ok (.ifCond .ne 11, 3) := dk_154 0 11 (dk_at dksX9_plain_7 7 rfl rfl)
theorem dX9_plain_175 : decode cX9_plain 175 = .ok (.bipush (-10), 2) := dk_16 246 (dk_at dksX9_plain_7 10 rfl rfl)
theorem dX9_plain_177 : decode cX9_plain 177 = .ok (.aload_n 0, 1) := dk_42 (dk_at dksX9_plain_7 12 rfl rfl)
theorem dX9_plain_178 : decode cX9_plain 178 = .ok (.getfield 95, 3) := dk_180 0 95 (dk_at dksX9_plain_7 13 rfl rfl)
theorem dX9_plain_181 : decode cX9_plain 181 = .ok (.isub, 1) := dk_100 (dk_at dksX9_plain_7 16 rfl rfl)
theorem dX9_plain_182 : decode cX9_plain 182 = .ok (.ireturn, 1) := dk_172 (dk_at dksX9_plain_7 17 rfl rfl)
theorem dX9_plain_183 : decode cX9_plain 183 = .ok (.aload_n 0, 1) := dk_42 (dk_at dksX9_plain_7 18 rfl rfl)
theorem dX9_plain_184 : decode cX9_plain 184 = .ok (.invokevirtual 117, 3) := dk_182 0 117 (dk_at dksX9_plain_7 19 rfl rfl)
theorem dX9_plain_187 : decode cX9_plain 187 = .ok (.iload_n 1, 1) := dk_27 (dk_at dksX9_plain_7 22 rfl rfl)
theorem dX9_plain_188 : decode cX9_plain 188 = .ok (.ireturn, 1) := dk_172 (dk_at dksX9_plain_7 23 rfl rfl)
abbrev cX9_advances : ByteArray := prog_13_method_7_code
def yX9_advances : MethodName := ⟨RX9, "advances", "()V"⟩
def dkwX9_advances_9 : List UInt8 := [159, 0, 15, 27, 16, 100, 159, 0, 9, 27, 16, 111, 160, 0, 7, 4, 167, 0, 4, 7, 181, 0, 89, 177]
abbrev dktX9_advances_9 : List UInt8 := dkwX9_advances_9 ++ []
def dkwX9_advances_8 : List UInt8 := [181, 0, 79, 42, 27, 181, 0, 92, 42, 27, 16, 59, 160, 0, 7, 6, 167, 0, 26, 27, 16, 116]
abbrev dktX9_advances_8 : List UInt8 := dkwX9_advances_8 ++ dktX9_advances_9
def dkwX9_advances_7 : List UInt8 := [4, 164, 0, 7, 7, 167, 0, 4, 5, 181, 0, 89, 167, 0, 55, 42, 89, 180, 0, 79, 4, 96]
abbrev dktX9_advances_7 : List UInt8 := dkwX9_advances_7 ++ dktX9_advances_8
def dkwX9_advances_6 : List UInt8 := [42, 180, 0, 92, 16, 99, 163, 0, 22, 27, 16, 48, 160, 0, 20, 42, 180, 0, 79, 42, 180, 0, 86, 100]
abbrev dktX9_advances_6 : List UInt8 := dkwX9_advances_6 ++ dktX9_advances_7
def dkwX9_advances_5 : List UInt8 := [182, 0, 82, 96, 16, 48, 100, 181, 0, 92, 42, 89, 180, 0, 79, 4, 96, 181, 0, 79, 167, 255, 189, 42]
abbrev dktX9_advances_5 : List UInt8 := dkwX9_advances_5 ++ dktX9_advances_6
def dkwX9_advances_4 : List UInt8 := [16, 99, 164, 0, 10, 42, 180, 0, 92, 167, 0, 22, 16, 10, 42, 180, 0, 92, 104, 42, 42, 180, 0, 79]
abbrev dktX9_advances_4 : List UInt8 := dkwX9_advances_4 ++ dktX9_advances_5
def dkwX9_advances_3 : List UInt8 := [42, 42, 180, 0, 79, 182, 0, 82, 16, 48, 16, 57, 184, 0, 72, 153, 0, 55, 42, 42, 180, 0, 92]
abbrev dktX9_advances_3 : List UInt8 := dkwX9_advances_3 ++ dktX9_advances_4
def dkwX9_advances_2 : List UInt8 := [42, 3, 181, 0, 89, 167, 0, 181, 27, 16, 48, 16, 57, 184, 0, 72, 153, 0, 118, 42, 3, 181, 0, 92]
abbrev dktX9_advances_2 : List UInt8 := dkwX9_advances_2 ++ dktX9_advances_3
def dkwX9_advances_1 : List UInt8 := [167, 255, 233, 42, 42, 180, 0, 79, 181, 0, 86, 42, 42, 180, 0, 79, 182, 0, 82, 60, 27, 156, 0, 11]
abbrev dktX9_advances_1 : List UInt8 := dkwX9_advances_1 ++ dktX9_advances_2
def dkwX9_advances_0 : List UInt8 := [42, 42, 180, 0, 79, 182, 0, 82, 16, 32, 160, 0, 16, 42, 89, 180, 0, 79, 4, 96, 181, 0, 79]
abbrev dktX9_advances_0 : List UInt8 := dkwX9_advances_0 ++ dktX9_advances_1
theorem dksX9_advances_0 : cX9_advances.data.toList.drop 0 = dktX9_advances_0 := by decide +kernel
theorem dksX9_advances_1 : cX9_advances.data.toList.drop 23 = dktX9_advances_1 := dk_seg dksX9_advances_0 23 rfl rfl
theorem dksX9_advances_2 : cX9_advances.data.toList.drop 47 = dktX9_advances_2 := dk_seg dksX9_advances_1 24 rfl rfl
theorem dksX9_advances_3 : cX9_advances.data.toList.drop 71 = dktX9_advances_3 := dk_seg dksX9_advances_2 24 rfl rfl
theorem dksX9_advances_4 : cX9_advances.data.toList.drop 94 = dktX9_advances_4 := dk_seg dksX9_advances_3 23 rfl rfl
theorem dksX9_advances_5 : cX9_advances.data.toList.drop 118 = dktX9_advances_5 := dk_seg dksX9_advances_4 24 rfl rfl
theorem dksX9_advances_6 : cX9_advances.data.toList.drop 142 = dktX9_advances_6 := dk_seg dksX9_advances_5 24 rfl rfl
theorem dksX9_advances_7 : cX9_advances.data.toList.drop 166 = dktX9_advances_7 := dk_seg dksX9_advances_6 24 rfl rfl
theorem dksX9_advances_8 : cX9_advances.data.toList.drop 188 = dktX9_advances_8 := dk_seg dksX9_advances_7 22 rfl rfl
theorem dksX9_advances_9 : cX9_advances.data.toList.drop 210 = dktX9_advances_9 := dk_seg dksX9_advances_8 22 rfl rfl
theorem dX9_advances_0 : decode cX9_advances 0 = .ok (.aload_n 0, 1) := dk_42 (dk_at dksX9_advances_0 0 rfl rfl)
theorem dX9_advances_1 : decode cX9_advances 1 = .ok (.aload_n 0, 1) := dk_42 (dk_at dksX9_advances_0 1 rfl rfl)
theorem dX9_advances_2 : decode cX9_advances 2 = .ok (.getfield 79, 3) := dk_180 0 79 (dk_at dksX9_advances_0 2 rfl rfl)
theorem dX9_advances_5 : decode cX9_advances 5 = .ok (.invokevirtual 82, 3) := dk_182 0 82 (dk_at dksX9_advances_0 5 rfl rfl)
theorem dX9_advances_8 : decode cX9_advances 8 = .ok (.bipush 32, 2) := dk_16 32 (dk_at dksX9_advances_0 8 rfl rfl)
theorem dX9_advances_10 : decode cX9_advances 10 = .ok (.if_icmp .ne 16, 3) := dk_160 0 16 (dk_at dksX9_advances_0 10 rfl rfl)
theorem dX9_advances_13 : decode cX9_advances 13 = .ok (.aload_n 0, 1) := dk_42 (dk_at dksX9_advances_0 13 rfl rfl)
theorem dX9_advances_14 : decode cX9_advances 14 = .ok (.dup, 1) := dk_89 (dk_at dksX9_advances_0 14 rfl rfl)
theorem dX9_advances_15 : decode cX9_advances 15 = .ok (.getfield 79, 3) := dk_180 0 79 (dk_at dksX9_advances_0 15 rfl rfl)
theorem dX9_advances_18 : decode cX9_advances 18 = .ok (.iconst 1, 1) := dk_4 (dk_at dksX9_advances_0 18 rfl rfl)
theorem dX9_advances_19 : decode cX9_advances 19 = .ok (.iadd, 1) := dk_96 (dk_at dksX9_advances_0 19 rfl rfl)
theorem dX9_advances_20 : decode cX9_advances 20 = .ok (.putfield 79, 3) := dk_181 0 79 (dk_at dksX9_advances_0 20 rfl rfl)
theorem dX9_advances_23 : decode cX9_advances 23 = .ok (.goto (-23), 3) := dk_167 255 233 (dk_at dksX9_advances_1 0 rfl rfl)
theorem dX9_advances_26 : decode cX9_advances 26 = .ok (.aload_n 0, 1) := dk_42 (dk_at dksX9_advances_1 3 rfl rfl)
theorem dX9_advances_27 : decode cX9_advances 27 = .ok (.aload_n 0, 1) := dk_42 (dk_at dksX9_advances_1 4 rfl rfl)
theorem dX9_advances_28 : decode cX9_advances 28 = .ok (.getfield 79, 3) := dk_180 0 79 (dk_at dksX9_advances_1 5 rfl rfl)
theorem dX9_advances_31 : decode cX9_advances 31 = .ok (.putfield 86, 3) := dk_181 0 86 (dk_at dksX9_advances_1 8 rfl rfl)
theorem dX9_advances_34 : decode cX9_advances 34 = .ok (.aload_n 0, 1) := dk_42 (dk_at dksX9_advances_1 11 rfl rfl)
theorem dX9_advances_35 : decode cX9_advances 35 = .ok (.aload_n 0, 1) := dk_42 (dk_at dksX9_advances_1 12 rfl rfl)
theorem dX9_advances_36 : decode cX9_advances 36 = .ok (.getfield 79, 3) := dk_180 0 79 (dk_at dksX9_advances_1 13 rfl rfl)
theorem dX9_advances_39 : decode cX9_advances 39 = .ok (.invokevirtual 82, 3) := dk_182 0 82 (dk_at dksX9_advances_1 16 rfl rfl)
theorem dX9_advances_42 : decode cX9_advances 42 = .ok (.istore_n 1, 1) := dk_60 (dk_at dksX9_advances_1 19 rfl rfl)
theorem dX9_advances_43 : decode cX9_advances 43 = .ok (.iload_n 1, 1) := dk_27 (dk_at dksX9_advances_1 20 rfl rfl)
theorem dX9_advances_44 : decode cX9_advances 44 = .ok (.ifCond .ge 11, 3) := dk_156 0 11 (dk_at dksX9_advances_1 21 rfl rfl)
theorem dX9_advances_47 : decode cX9_advances 47 = .ok (.aload_n 0, 1) := dk_42 (dk_at dksX9_advances_2 0 rfl rfl)
theorem dX9_advances_48 : decode cX9_advances 48 = .ok (.iconst 0, 1) := dk_3 (dk_at dksX9_advances_2 1 rfl rfl)
theorem dX9_advances_49 : decode cX9_advances 49 = .ok (.putfield 89, 3) := dk_181 0 89 (dk_at dksX9_advances_2 2 rfl rfl)
theorem dX9_advances_52 : decode cX9_advances 52 = .ok (.goto 181, 3) := dk_167 0 181 (dk_at dksX9_advances_2 5 rfl rfl)
theorem dX9_advances_55 : decode cX9_advances 55 = .ok (.iload_n 1, 1) := dk_27 (dk_at dksX9_advances_2 8 rfl rfl)
theorem dX9_advances_56 : decode cX9_advances 56 = .ok (.bipush 48, 2) := dk_16 48 (dk_at dksX9_advances_2 9 rfl rfl)
theorem dX9_advances_58 : decode cX9_advances 58 = .ok (.bipush 57, 2) := dk_16 57 (dk_at dksX9_advances_2 11 rfl rfl)
theorem dX9_advances_60 : decode cX9_advances 60 = .ok (.invokestatic 72, 3) := dk_184 0 72 (dk_at dksX9_advances_2 13 rfl rfl)
theorem dX9_advances_63 : decode cX9_advances 63 = .ok (.ifCond .eq 118, 3) := dk_153 0 118 (dk_at dksX9_advances_2 16 rfl rfl)
theorem dX9_advances_66 : decode cX9_advances 66 = .ok (.aload_n 0, 1) := dk_42 (dk_at dksX9_advances_2 19 rfl rfl)
theorem dX9_advances_67 : decode cX9_advances 67 = .ok (.iconst 0, 1) := dk_3 (dk_at dksX9_advances_2 20 rfl rfl)
theorem dX9_advances_68 : decode cX9_advances 68 = .ok (.putfield 92, 3) := dk_181 0 92 (dk_at dksX9_advances_2 21 rfl rfl)
theorem dX9_advances_71 : decode cX9_advances 71 = .ok (.aload_n 0, 1) := dk_42 (dk_at dksX9_advances_3 0 rfl rfl)
theorem dX9_advances_72 : decode cX9_advances 72 = .ok (.aload_n 0, 1) := dk_42 (dk_at dksX9_advances_3 1 rfl rfl)
theorem dX9_advances_73 : decode cX9_advances 73 = .ok (.getfield 79, 3) := dk_180 0 79 (dk_at dksX9_advances_3 2 rfl rfl)
theorem dX9_advances_76 : decode cX9_advances 76 = .ok (.invokevirtual 82, 3) := dk_182 0 82 (dk_at dksX9_advances_3 5 rfl rfl)
theorem dX9_advances_79 : decode cX9_advances 79 = .ok (.bipush 48, 2) := dk_16 48 (dk_at dksX9_advances_3 8 rfl rfl)
theorem dX9_advances_81 : decode cX9_advances 81 = .ok (.bipush 57, 2) := dk_16 57 (dk_at dksX9_advances_3 10 rfl rfl)
theorem dX9_advances_83 : decode cX9_advances 83 = .ok (.invokestatic 72, 3) := dk_184 0 72 (dk_at dksX9_advances_3 12 rfl rfl)
theorem dX9_advances_86 : decode cX9_advances 86 = .ok (.ifCond .eq 55, 3) := dk_153 0 55 (dk_at dksX9_advances_3 15 rfl rfl)
theorem dX9_advances_89 : decode cX9_advances 89 = .ok (.aload_n 0, 1) := dk_42 (dk_at dksX9_advances_3 18 rfl rfl)
theorem dX9_advances_90 : decode cX9_advances 90 = .ok (.aload_n 0, 1) := dk_42 (dk_at dksX9_advances_3 19 rfl rfl)
theorem dX9_advances_91 : decode cX9_advances 91 = .ok (.getfield 92, 3) := dk_180 0 92 (dk_at dksX9_advances_3 20 rfl rfl)
theorem dX9_advances_94 : decode cX9_advances 94 = .ok (.bipush 99, 2) := dk_16 99 (dk_at dksX9_advances_4 0 rfl rfl)
theorem dX9_advances_96 : decode cX9_advances 96 = .ok (.if_icmp .le 10, 3) := dk_164 0 10 (dk_at dksX9_advances_4 2 rfl rfl)
theorem dX9_advances_99 : decode cX9_advances 99 = .ok (.aload_n 0, 1) := dk_42 (dk_at dksX9_advances_4 5 rfl rfl)
theorem dX9_advances_100 : decode cX9_advances 100 = .ok (.getfield 92, 3) := dk_180 0 92 (dk_at dksX9_advances_4 6 rfl rfl)
theorem dX9_advances_103 : decode cX9_advances 103 = .ok (.goto 22, 3) := dk_167 0 22 (dk_at dksX9_advances_4 9 rfl rfl)
theorem dX9_advances_106 : decode cX9_advances 106 = .ok (.bipush 10, 2) := dk_16 10 (dk_at dksX9_advances_4 12 rfl rfl)
theorem dX9_advances_108 : decode cX9_advances 108 = .ok (.aload_n 0, 1) := dk_42 (dk_at dksX9_advances_4 14 rfl rfl)
theorem dX9_advances_109 : decode cX9_advances 109 = .ok (.getfield 92, 3) := dk_180 0 92 (dk_at dksX9_advances_4 15 rfl rfl)
theorem dX9_advances_112 : decode cX9_advances 112 = .ok (.imul, 1) := dk_104 (dk_at dksX9_advances_4 18 rfl rfl)
theorem dX9_advances_113 : decode cX9_advances 113 = .ok (.aload_n 0, 1) := dk_42 (dk_at dksX9_advances_4 19 rfl rfl)
theorem dX9_advances_114 : decode cX9_advances 114 = .ok (.aload_n 0, 1) := dk_42 (dk_at dksX9_advances_4 20 rfl rfl)
theorem dX9_advances_115 : decode cX9_advances 115 = .ok (.getfield 79, 3) := dk_180 0 79 (dk_at dksX9_advances_4 21 rfl rfl)
theorem dX9_advances_118 : decode cX9_advances 118 = .ok (.invokevirtual 82, 3) := dk_182 0 82 (dk_at dksX9_advances_5 0 rfl rfl)
theorem dX9_advances_121 : decode cX9_advances 121 = .ok (.iadd, 1) := dk_96 (dk_at dksX9_advances_5 3 rfl rfl)
theorem dX9_advances_122 : decode cX9_advances 122 = .ok (.bipush 48, 2) := dk_16 48 (dk_at dksX9_advances_5 4 rfl rfl)
theorem dX9_advances_124 : decode cX9_advances 124 = .ok (.isub, 1) := dk_100 (dk_at dksX9_advances_5 6 rfl rfl)
theorem dX9_advances_125 : decode cX9_advances 125 = .ok (.putfield 92, 3) := dk_181 0 92 (dk_at dksX9_advances_5 7 rfl rfl)
theorem dX9_advances_128 : decode cX9_advances 128 = .ok (.aload_n 0, 1) := dk_42 (dk_at dksX9_advances_5 10 rfl rfl)
theorem dX9_advances_129 : decode cX9_advances 129 = .ok (.dup, 1) := dk_89 (dk_at dksX9_advances_5 11 rfl rfl)
theorem dX9_advances_130 : decode cX9_advances 130 = .ok (.getfield 79, 3) := dk_180 0 79 (dk_at dksX9_advances_5 12 rfl rfl)
theorem dX9_advances_133 : decode cX9_advances 133 = .ok (.iconst 1, 1) := dk_4 (dk_at dksX9_advances_5 15 rfl rfl)
theorem dX9_advances_134 : decode cX9_advances 134 = .ok (.iadd, 1) := dk_96 (dk_at dksX9_advances_5 16 rfl rfl)
theorem dX9_advances_135 : decode cX9_advances 135 = .ok (.putfield 79, 3) := dk_181 0 79 (dk_at dksX9_advances_5 17 rfl rfl)
theorem dX9_advances_138 : decode cX9_advances 138 = .ok (.goto (-67), 3) := dk_167 255 189 (dk_at dksX9_advances_5 20 rfl rfl)
theorem dX9_advances_141 : decode cX9_advances 141 = .ok (.aload_n 0, 1) := dk_42 (dk_at dksX9_advances_5 23 rfl rfl)
theorem dX9_advances_142 : decode cX9_advances 142 = .ok (.aload_n 0, 1) := dk_42 (dk_at dksX9_advances_6 0 rfl rfl)
theorem dX9_advances_143 : decode cX9_advances 143 = .ok (.getfield 92, 3) := dk_180 0 92 (dk_at dksX9_advances_6 1 rfl rfl)
theorem dX9_advances_146 : decode cX9_advances 146 = .ok (.bipush 99, 2) := dk_16 99 (dk_at dksX9_advances_6 4 rfl rfl)
theorem dX9_advances_148 : decode cX9_advances 148 = .ok (.if_icmp .gt 22, 3) := dk_163 0 22 (dk_at dksX9_advances_6 6 rfl rfl)
theorem dX9_advances_151 : decode cX9_advances 151 = .ok (.iload_n 1, 1) := dk_27 (dk_at dksX9_advances_6 9 rfl rfl)
theorem dX9_advances_152 : decode cX9_advances 152 = .ok (.bipush 48, 2) := dk_16 48 (dk_at dksX9_advances_6 10 rfl rfl)
theorem dX9_advances_154 : decode cX9_advances 154 = .ok (.if_icmp .ne 20, 3) := dk_160 0 20 (dk_at dksX9_advances_6 12 rfl rfl)
theorem dX9_advances_157 : decode cX9_advances 157 = .ok (.aload_n 0, 1) := dk_42 (dk_at dksX9_advances_6 15 rfl rfl)
theorem dX9_advances_158 : decode cX9_advances 158 = .ok (.getfield 79, 3) := dk_180 0 79 (dk_at dksX9_advances_6 16 rfl rfl)
theorem dX9_advances_161 : decode cX9_advances 161 = .ok (.aload_n 0, 1) := dk_42 (dk_at dksX9_advances_6 19 rfl rfl)
theorem dX9_advances_162 : decode cX9_advances 162 = .ok (.getfield 86, 3) := dk_180 0 86 (dk_at dksX9_advances_6 20 rfl rfl)
theorem dX9_advances_165 : decode cX9_advances 165 = .ok (.isub, 1) := dk_100 (dk_at dksX9_advances_6 23 rfl rfl)
theorem dX9_advances_166 : decode cX9_advances 166 = .ok (.iconst 1, 1) := dk_4 (dk_at dksX9_advances_7 0 rfl rfl)
theorem dX9_advances_167 : decode cX9_advances 167 = .ok (.if_icmp .le 7, 3) := dk_164 0 7 (dk_at dksX9_advances_7 1 rfl rfl)
theorem dX9_advances_170 : decode cX9_advances 170 = .ok (.iconst 4, 1) := dk_7 (dk_at dksX9_advances_7 4 rfl rfl)
theorem dX9_advances_171 : decode cX9_advances 171 = .ok (.goto 4, 3) := dk_167 0 4 (dk_at dksX9_advances_7 5 rfl rfl)
theorem dX9_advances_174 : decode cX9_advances 174 = .ok (.iconst 2, 1) := dk_5 (dk_at dksX9_advances_7 8 rfl rfl)
theorem dX9_advances_175 : decode cX9_advances 175 = .ok (.putfield 89, 3) := dk_181 0 89 (dk_at dksX9_advances_7 9 rfl rfl)
theorem dX9_advances_178 : decode cX9_advances 178 = .ok (.goto 55, 3) := dk_167 0 55 (dk_at dksX9_advances_7 12 rfl rfl)
theorem dX9_advances_181 : decode cX9_advances 181 = .ok (.aload_n 0, 1) := dk_42 (dk_at dksX9_advances_7 15 rfl rfl)
theorem dX9_advances_182 : decode cX9_advances 182 = .ok (.dup, 1) := dk_89 (dk_at dksX9_advances_7 16 rfl rfl)
theorem dX9_advances_183 : decode cX9_advances 183 = .ok (.getfield 79, 3) := dk_180 0 79 (dk_at dksX9_advances_7 17 rfl rfl)
theorem dX9_advances_186 : decode cX9_advances 186 = .ok (.iconst 1, 1) := dk_4 (dk_at dksX9_advances_7 20 rfl rfl)
theorem dX9_advances_187 : decode cX9_advances 187 = .ok (.iadd, 1) := dk_96 (dk_at dksX9_advances_7 21 rfl rfl)
theorem dX9_advances_188 : decode cX9_advances 188 = .ok (.putfield 79, 3) := dk_181 0 79 (dk_at dksX9_advances_8 0 rfl rfl)
theorem dX9_advances_191 : decode cX9_advances 191 = .ok (.aload_n 0, 1) := dk_42 (dk_at dksX9_advances_8 3 rfl rfl)
theorem dX9_advances_192 : decode cX9_advances 192 = .ok (.iload_n 1, 1) := dk_27 (dk_at dksX9_advances_8 4 rfl rfl)
theorem dX9_advances_193 : decode cX9_advances 193 = .ok (.putfield 92, 3) := dk_181 0 92 (dk_at dksX9_advances_8 5 rfl rfl)
theorem dX9_advances_196 : decode cX9_advances 196 = .ok (.aload_n 0, 1) := dk_42 (dk_at dksX9_advances_8 8 rfl rfl)
theorem dX9_advances_197 : decode cX9_advances 197 = .ok (.iload_n 1, 1) := dk_27 (dk_at dksX9_advances_8 9 rfl rfl)
theorem dX9_advances_198 : decode cX9_advances 198 = .ok (.bipush 59, 2) := dk_16 59 (dk_at dksX9_advances_8 10 rfl rfl)
theorem dX9_advances_200 : decode cX9_advances 200 = .ok (.if_icmp .ne 7, 3) := dk_160 0 7 (dk_at dksX9_advances_8 12 rfl rfl)
theorem dX9_advances_203 : decode cX9_advances 203 = .ok (.iconst 3, 1) := dk_6 (dk_at dksX9_advances_8 15 rfl rfl)
theorem dX9_advances_204 : decode cX9_advances 204 = .ok (.goto 26, 3) := dk_167 0 26 (dk_at dksX9_advances_8 16 rfl rfl)
theorem dX9_advances_207 : decode cX9_advances 207 = .ok (.iload_n 1, 1) := dk_27 (dk_at dksX9_advances_8 19 rfl rfl)
theorem dX9_advances_208 : decode cX9_advances 208 = .ok (.bipush 116, 2) := dk_16 116 (dk_at dksX9_advances_8 20 rfl rfl)
theorem dX9_advances_210 : decode cX9_advances 210 = .ok (.if_icmp .eq 15, 3) := dk_159 0 15 (dk_at dksX9_advances_9 0 rfl rfl)
theorem dX9_advances_213 : decode cX9_advances 213 = .ok (.iload_n 1, 1) := dk_27 (dk_at dksX9_advances_9 3 rfl rfl)
theorem dX9_advances_214 : decode cX9_advances 214 = .ok (.bipush 100, 2) := dk_16 100 (dk_at dksX9_advances_9 4 rfl rfl)
theorem dX9_advances_216 : decode cX9_advances 216 = .ok (.if_icmp .eq 9, 3) := dk_159 0 9 (dk_at dksX9_advances_9 6 rfl rfl)
theorem dX9_advances_219 : decode cX9_advances 219 = .ok (.iload_n 1, 1) := dk_27 (dk_at dksX9_advances_9 9 rfl rfl)
theorem dX9_advances_220 : decode cX9_advances 220 = .ok (.bipush 111, 2) := dk_16 111 (dk_at dksX9_advances_9 10 rfl rfl)
theorem dX9_advances_222 : decode cX9_advances 222 = .ok (.if_icmp .ne 7, 3) := dk_160 0 7 (dk_at dksX9_advances_9 12 rfl rfl)
theorem dX9_advances_225 : decode cX9_advances 225 = .ok (.iconst 1, 1) := dk_4 (dk_at dksX9_advances_9 15 rfl rfl)
theorem dX9_advances_226 : decode cX9_advances 226 = .ok (.goto 4, 3) := dk_167 0 4 (dk_at dksX9_advances_9 16 rfl rfl)
theorem dX9_advances_229 : decode cX9_advances 229 = .ok (.iconst 4, 1) := dk_7 (dk_at dksX9_advances_9 19 rfl rfl)
theorem dX9_advances_230 : decode cX9_advances 230 = .ok (.putfield 89, 3) := dk_181 0 89 (dk_at dksX9_advances_9 20 rfl rfl)
theorem dX9_advances_233 : decode cX9_advances 233 = .ok (.return_, 1) := dk_177 (dk_at dksX9_advances_9 23 rfl rfl)
abbrev cX9_letterAt : ByteArray := prog_13_method_6_code
def yX9_letterAt : MethodName := ⟨RX9, "letterAt", "(I)I"⟩
def dkwX9_letterAt_0 : List UInt8 := [27, 42, 180, 0, 76, 162, 0, 12, 42, 180, 0, 7, 27, 46, 167, 0, 4, 2, 172]
abbrev dktX9_letterAt_0 : List UInt8 := dkwX9_letterAt_0 ++ []
theorem dksX9_letterAt_0 : cX9_letterAt.data.toList.drop 0 = dktX9_letterAt_0 := by decide +kernel
theorem dX9_letterAt_0 : decode cX9_letterAt 0 = .ok (.iload_n 1, 1) := dk_27 (dk_at dksX9_letterAt_0 0 rfl rfl)
theorem dX9_letterAt_1 : decode cX9_letterAt 1 = .ok (.aload_n 0, 1) := dk_42 (dk_at dksX9_letterAt_0 1 rfl rfl)
theorem dX9_letterAt_2 : decode cX9_letterAt 2 = .ok (.getfield 76, 3) := dk_180 0 76 (dk_at dksX9_letterAt_0 2 rfl rfl)
theorem dX9_letterAt_5 : decode cX9_letterAt 5 = .ok (.if_icmp .ge 12, 3) := dk_162 0 12 (dk_at dksX9_letterAt_0 5 rfl rfl)
theorem dX9_letterAt_8 : decode cX9_letterAt 8 = .ok (.aload_n 0, 1) := dk_42 (dk_at dksX9_letterAt_0 8 rfl rfl)
theorem dX9_letterAt_9 : decode cX9_letterAt 9 = .ok (.getfield 7, 3) := dk_180 0 7 (dk_at dksX9_letterAt_0 9 rfl rfl)
theorem dX9_letterAt_12 : decode cX9_letterAt 12 = .ok (.iload_n 1, 1) := dk_27 (dk_at dksX9_letterAt_0 12 rfl rfl)
theorem dX9_letterAt_13 : decode cX9_letterAt 13 = .ok (.iaload, 1) := dk_46 (dk_at dksX9_letterAt_0 13 rfl rfl)
theorem dX9_letterAt_14 : decode cX9_letterAt 14 = .ok (.goto 4, 3) := dk_167 0 4 (dk_at dksX9_letterAt_0 14 rfl rfl)
theorem dX9_letterAt_17 : decode cX9_letterAt 17 = .ok (.iconst (-1), 1) := dk_2 (dk_at dksX9_letterAt_0 17 rfl rfl)
theorem dX9_letterAt_18 : decode cX9_letterAt 18 = .ok (.ireturn, 1) := dk_172 (dk_at dksX9_letterAt_0 18 rfl rfl)
abbrev cX9_isWell : ByteArray := prog_13_method_8_code
def yX9_isWell : MethodName := ⟨RX9, "isWell", "()Z"⟩
def dkwX9_isWell_0 : List UInt8 := [42, 180, 0, 95, 156, 0, 7, 4, 167, 0, 4, 3, 172]
abbrev dktX9_isWell_0 : List UInt8 := dkwX9_isWell_0 ++ []
theorem dksX9_isWell_0 : cX9_isWell.data.toList.drop 0 = dktX9_isWell_0 := by decide +kernel
theorem dX9_isWell_0 : decode cX9_isWell 0 = .ok (.aload_n 0, 1) := dk_42 (dk_at dksX9_isWell_0 0 rfl rfl)
theorem dX9_isWell_1 : decode cX9_isWell 1 = .ok (.getfield 95, 3) := dk_180 0 95 (dk_at dksX9_isWell_0 1 rfl rfl)
theorem dX9_isWell_4 : decode cX9_isWell 4 = .ok (.ifCond .ge 7, 3) := dk_156 0 7 (dk_at dksX9_isWell_0 4 rfl rfl)
theorem dX9_isWell_7 : decode cX9_isWell 7 = .ok (.iconst 1, 1) := dk_4 (dk_at dksX9_isWell_0 7 rfl rfl)
theorem dX9_isWell_8 : decode cX9_isWell 8 = .ok (.goto 4, 3) := dk_167 0 4 (dk_at dksX9_isWell_0 8 rfl rfl)
theorem dX9_isWell_11 : decode cX9_isWell 11 = .ok (.iconst 0, 1) := dk_3 (dk_at dksX9_isWell_0 11 rfl rfl)
theorem dX9_isWell_12 : decode cX9_isWell 12 = .ok (.ireturn, 1) := dk_172 (dk_at dksX9_isWell_0 12 rfl rfl)
abbrev cX9_takes : ByteArray := prog_13_method_9_code
def yX9_takes : MethodName := ⟨RX9, "takes", "(Z)I"⟩
def dkwX9_takes_1 : List UInt8 := [180, 0, 92, 61, 42, 182, 0, 102, 28, 172]
abbrev dktX9_takes_1 : List UInt8 := dkwX9_takes_1 ++ []
def dkwX9_takes_0 : List UInt8 := [42, 182, 0, 98, 154, 0, 5, 3, 172, 27, 154, 0, 13, 42, 42, 180, 0, 86, 181, 0, 95, 3, 172, 42]
abbrev dktX9_takes_0 : List UInt8 := dkwX9_takes_0 ++ dktX9_takes_1
theorem dksX9_takes_0 : cX9_takes.data.toList.drop 0 = dktX9_takes_0 := by decide +kernel
theorem dksX9_takes_1 : cX9_takes.data.toList.drop 24 = dktX9_takes_1 := dk_seg dksX9_takes_0 24 rfl rfl
theorem dX9_takes_0 : decode cX9_takes 0 = .ok (.aload_n 0, 1) := dk_42 (dk_at dksX9_takes_0 0 rfl rfl)
theorem dX9_takes_1 : decode cX9_takes 1 = .ok (.invokevirtual 98, 3) := dk_182 0 98 (dk_at dksX9_takes_0 1 rfl rfl)
theorem dX9_takes_4 : decode cX9_takes 4 = .ok (.ifCond .ne 5, 3) := dk_154 0 5 (dk_at dksX9_takes_0 4 rfl rfl)
theorem dX9_takes_7 : decode cX9_takes 7 = .ok (.iconst 0, 1) := dk_3 (dk_at dksX9_takes_0 7 rfl rfl)
theorem dX9_takes_8 : decode cX9_takes 8 = .ok (.ireturn, 1) := dk_172 (dk_at dksX9_takes_0 8 rfl rfl)
theorem dX9_takes_9 : decode cX9_takes 9 = .ok (.iload_n 1, 1) := dk_27 (dk_at dksX9_takes_0 9 rfl rfl)
theorem dX9_takes_10 : decode cX9_takes 10 = .ok (.ifCond .ne 13, 3) := dk_154 0 13 (dk_at dksX9_takes_0 10 rfl rfl)
theorem dX9_takes_13 : decode cX9_takes 13 = .ok (.aload_n 0, 1) := dk_42 (dk_at dksX9_takes_0 13 rfl rfl)
theorem dX9_takes_14 : decode cX9_takes 14 = .ok (.aload_n 0, 1) := dk_42 (dk_at dksX9_takes_0 14 rfl rfl)
theorem dX9_takes_15 : decode cX9_takes 15 = .ok (.getfield 86, 3) := dk_180 0 86 (dk_at dksX9_takes_0 15 rfl rfl)
theorem dX9_takes_18 : decode cX9_takes 18 = .ok (.putfield 95, 3) := dk_181 0 95 (dk_at dksX9_takes_0 18 rfl rfl)
theorem dX9_takes_21 : decode cX9_takes 21 = .ok (.iconst 0, 1) := dk_3 (dk_at dksX9_takes_0 21 rfl rfl)
theorem dX9_takes_22 : decode cX9_takes 22 = .ok (.ireturn, 1) := dk_172 (dk_at dksX9_takes_0 22 rfl rfl)
theorem dX9_takes_23 : decode cX9_takes 23 = .ok (.aload_n 0, 1) := dk_42 (dk_at dksX9_takes_0 23 rfl rfl)
theorem dX9_takes_24 : decode cX9_takes 24 = .ok (.getfield 92, 3) := dk_180 0 92 (dk_at dksX9_takes_1 0 rfl rfl)
theorem dX9_takes_27 : decode cX9_takes 27 = .ok (.istore_n 2, 1) := dk_61 (dk_at dksX9_takes_1 3 rfl rfl)
theorem dX9_takes_28 : decode cX9_takes 28 = .ok (.aload_n 0, 1) := dk_42 (dk_at dksX9_takes_1 4 rfl rfl)
theorem dX9_takes_29 : decode cX9_takes 29 = .ok (.invokevirtual 102, 3) := dk_182 0 102 (dk_at dksX9_takes_1 5 rfl rfl)
theorem dX9_takes_32 : decode cX9_takes 32 = .ok (.iload_n 2, 1) := dk_28 (dk_at dksX9_takes_1 8 rfl rfl)
theorem dX9_takes_33 : decode cX9_takes 33 = .ok (.ireturn, 1) := dk_172 (dk_at dksX9_takes_1 9 rfl rfl)
abbrev cX9_readsItem : ByteArray := prog_13_method_11_code
def yX9_readsItem : MethodName := ⟨RX9, "readsItem", "(I)V"⟩
def dkwX9_readsItem_11 : List UInt8 := [79, 42, 180, 0, 13, 6, 92, 46, 4, 96, 79, 177]
abbrev dktX9_readsItem_11 : List UInt8 := dkwX9_readsItem_11 ++ []
def dkwX9_readsItem_10 : List UInt8 := [182, 0, 109, 79, 42, 180, 0, 34, 16, 6, 42, 180, 0, 13, 6, 46, 96, 42, 3, 16, 60, 182, 0, 109]
abbrev dktX9_readsItem_10 : List UInt8 := dkwX9_readsItem_10 ++ dktX9_readsItem_11
def dkwX9_readsItem_9 : List UInt8 := [180, 0, 31, 16, 6, 42, 180, 0, 13, 6, 46, 96, 42, 3, 42, 180, 0, 13, 5, 46, 4, 100]
abbrev dktX9_readsItem_9 : List UInt8 := dkwX9_readsItem_9 ++ dktX9_readsItem_10
def dkwX9_readsItem_8 : List UInt8 := [16, 6, 42, 180, 0, 13, 6, 46, 96, 42, 3, 42, 180, 0, 13, 5, 46, 4, 100, 182, 0, 109, 79, 42]
abbrev dktX9_readsItem_8 : List UInt8 := dkwX9_readsItem_8 ++ dktX9_readsItem_9
def dkwX9_readsItem_7 : List UInt8 := [79, 42, 180, 0, 25, 16, 36, 16, 6, 29, 104, 96, 28, 96, 21, 4, 79, 167, 0, 88, 42, 180, 0, 28]
abbrev dktX9_readsItem_7 : List UInt8 := dkwX9_readsItem_7 ++ dktX9_readsItem_8
def dkwX9_readsItem_6 : List UInt8 := [54, 4, 42, 182, 0, 98, 153, 0, 35, 42, 180, 0, 25, 16, 36, 16, 6, 28, 104, 96, 29, 96, 21, 4]
abbrev dktX9_readsItem_6 : List UInt8 := dkwX9_readsItem_6 ++ dktX9_readsItem_7
def dkwX9_readsItem_5 : List UInt8 := [180, 0, 92, 28, 159, 0, 7, 4, 167, 0, 4, 3, 182, 0, 105, 62, 42, 4, 16, 9, 182, 0, 109]
abbrev dktX9_readsItem_5 : List UInt8 := dkwX9_readsItem_5 ++ dktX9_readsItem_6
def dkwX9_readsItem_4 : List UInt8 := [160, 0, 34, 42, 180, 0, 92, 3, 42, 180, 0, 13, 5, 46, 4, 100, 184, 0, 72, 153, 0, 15, 42]
abbrev dktX9_readsItem_4 : List UInt8 := dkwX9_readsItem_4 ++ dktX9_readsItem_5
def dkwX9_readsItem_3 : List UInt8 := [160, 0, 113, 42, 3, 42, 180, 0, 13, 5, 46, 4, 100, 182, 0, 109, 61, 42, 42, 180, 0, 89, 5]
abbrev dktX9_readsItem_3 : List UInt8 := dkwX9_readsItem_3 ++ dktX9_readsItem_4
def dkwX9_readsItem_2 : List UInt8 := [42, 3, 16, 6, 182, 0, 109, 79, 42, 180, 0, 13, 5, 92, 46, 4, 96, 79, 167, 0, 204, 27, 16, 100]
abbrev dktX9_readsItem_2 : List UInt8 := dkwX9_readsItem_2 ++ dktX9_readsItem_3
def dkwX9_readsItem_1 : List UInt8 := [16, 99, 182, 0, 109, 79, 42, 180, 0, 19, 28, 42, 4, 16, 99, 182, 0, 109, 79, 42, 180, 0, 22, 28]
abbrev dktX9_readsItem_1 : List UInt8 := dkwX9_readsItem_1 ++ dktX9_readsItem_2
def dkwX9_readsItem_0 : List UInt8 := [27, 16, 116, 160, 0, 65, 16, 6, 42, 180, 0, 13, 5, 46, 96, 61, 42, 180, 0, 16, 28, 42, 4]
abbrev dktX9_readsItem_0 : List UInt8 := dkwX9_readsItem_0 ++ dktX9_readsItem_1
theorem dksX9_readsItem_0 : cX9_readsItem.data.toList.drop 0 = dktX9_readsItem_0 := by decide +kernel
theorem dksX9_readsItem_1 : cX9_readsItem.data.toList.drop 23 = dktX9_readsItem_1 := dk_seg dksX9_readsItem_0 23 rfl rfl
theorem dksX9_readsItem_2 : cX9_readsItem.data.toList.drop 47 = dktX9_readsItem_2 := dk_seg dksX9_readsItem_1 24 rfl rfl
theorem dksX9_readsItem_3 : cX9_readsItem.data.toList.drop 71 = dktX9_readsItem_3 := dk_seg dksX9_readsItem_2 24 rfl rfl
theorem dksX9_readsItem_4 : cX9_readsItem.data.toList.drop 94 = dktX9_readsItem_4 := dk_seg dksX9_readsItem_3 23 rfl rfl
theorem dksX9_readsItem_5 : cX9_readsItem.data.toList.drop 117 = dktX9_readsItem_5 := dk_seg dksX9_readsItem_4 23 rfl rfl
theorem dksX9_readsItem_6 : cX9_readsItem.data.toList.drop 140 = dktX9_readsItem_6 := dk_seg dksX9_readsItem_5 23 rfl rfl
theorem dksX9_readsItem_7 : cX9_readsItem.data.toList.drop 164 = dktX9_readsItem_7 := dk_seg dksX9_readsItem_6 24 rfl rfl
theorem dksX9_readsItem_8 : cX9_readsItem.data.toList.drop 188 = dktX9_readsItem_8 := dk_seg dksX9_readsItem_7 24 rfl rfl
theorem dksX9_readsItem_9 : cX9_readsItem.data.toList.drop 212 = dktX9_readsItem_9 := dk_seg dksX9_readsItem_8 24 rfl rfl
theorem dksX9_readsItem_10 : cX9_readsItem.data.toList.drop 234 = dktX9_readsItem_10 := dk_seg dksX9_readsItem_9 22 rfl rfl
theorem dksX9_readsItem_11 : cX9_readsItem.data.toList.drop 258 = dktX9_readsItem_11 := dk_seg dksX9_readsItem_10 24 rfl rfl
theorem dX9_readsItem_0 : decode cX9_readsItem 0 = .ok (.iload_n 1, 1) := dk_27 (dk_at dksX9_readsItem_0 0 rfl rfl)
theorem dX9_readsItem_1 : decode cX9_readsItem 1 = .ok (.bipush 116, 2) := dk_16 116 (dk_at dksX9_readsItem_0 1 rfl rfl)
theorem dX9_readsItem_3 : decode cX9_readsItem 3 = .ok (.if_icmp .ne 65, 3) := dk_160 0 65 (dk_at dksX9_readsItem_0 3 rfl rfl)
theorem dX9_readsItem_6 : decode cX9_readsItem 6 = .ok (.bipush 6, 2) := dk_16 6 (dk_at dksX9_readsItem_0 6 rfl rfl)
theorem dX9_readsItem_8 : decode cX9_readsItem 8 = .ok (.aload_n 0, 1) := dk_42 (dk_at dksX9_readsItem_0 8 rfl rfl)
theorem dX9_readsItem_9 : decode cX9_readsItem 9 = .ok (.getfield 13, 3) := dk_180 0 13 (dk_at dksX9_readsItem_0 9 rfl rfl)
theorem dX9_readsItem_12 : decode cX9_readsItem 12 = .ok (.iconst 2, 1) := dk_5 (dk_at dksX9_readsItem_0 12 rfl rfl)
theorem dX9_readsItem_13 : decode cX9_readsItem 13 = .ok (.iaload, 1) := dk_46 (dk_at dksX9_readsItem_0 13 rfl rfl)
theorem dX9_readsItem_14 : decode cX9_readsItem 14 = .ok (.iadd, 1) := dk_96 (dk_at dksX9_readsItem_0 14 rfl rfl)
theorem dX9_readsItem_15 : decode cX9_readsItem 15 = .ok (.istore_n 2, 1) := dk_61 (dk_at dksX9_readsItem_0 15 rfl rfl)
theorem dX9_readsItem_16 : decode cX9_readsItem 16 = .ok (.aload_n 0, 1) := dk_42 (dk_at dksX9_readsItem_0 16 rfl rfl)
theorem dX9_readsItem_17 : decode cX9_readsItem 17 = .ok (.getfield 16, 3) := dk_180 0 16 (dk_at dksX9_readsItem_0 17 rfl rfl)
theorem dX9_readsItem_20 : decode cX9_readsItem 20 = .ok (.iload_n 2, 1) := dk_28 (dk_at dksX9_readsItem_0 20 rfl rfl)
theorem dX9_readsItem_21 : decode cX9_readsItem 21 = .ok (.aload_n 0, 1) := dk_42 (dk_at dksX9_readsItem_0 21 rfl rfl)
theorem dX9_readsItem_22 : decode cX9_readsItem 22 = .ok (.iconst 1, 1) := dk_4 (dk_at dksX9_readsItem_0 22 rfl rfl)
theorem dX9_readsItem_23 : decode cX9_readsItem 23 = .ok (.bipush 99, 2) := dk_16 99 (dk_at dksX9_readsItem_1 0 rfl rfl)
theorem dX9_readsItem_25 : decode cX9_readsItem 25 = .ok (.invokevirtual 109, 3) := dk_182 0 109 (dk_at dksX9_readsItem_1 2 rfl rfl)
theorem dX9_readsItem_28 : decode cX9_readsItem 28 = .ok (.iastore, 1) := dk_79 (dk_at dksX9_readsItem_1 5 rfl rfl)
theorem dX9_readsItem_29 : decode cX9_readsItem 29 = .ok (.aload_n 0, 1) := dk_42 (dk_at dksX9_readsItem_1 6 rfl rfl)
theorem dX9_readsItem_30 : decode cX9_readsItem 30 = .ok (.getfield 19, 3) := dk_180 0 19 (dk_at dksX9_readsItem_1 7 rfl rfl)
theorem dX9_readsItem_33 : decode cX9_readsItem 33 = .ok (.iload_n 2, 1) := dk_28 (dk_at dksX9_readsItem_1 10 rfl rfl)
theorem dX9_readsItem_34 : decode cX9_readsItem 34 = .ok (.aload_n 0, 1) := dk_42 (dk_at dksX9_readsItem_1 11 rfl rfl)
theorem dX9_readsItem_35 : decode cX9_readsItem 35 = .ok (.iconst 1, 1) := dk_4 (dk_at dksX9_readsItem_1 12 rfl rfl)
theorem dX9_readsItem_36 : decode cX9_readsItem 36 = .ok (.bipush 99, 2) := dk_16 99 (dk_at dksX9_readsItem_1 13 rfl rfl)
theorem dX9_readsItem_38 : decode cX9_readsItem 38 = .ok (.invokevirtual 109, 3) := dk_182 0 109 (dk_at dksX9_readsItem_1 15 rfl rfl)
theorem dX9_readsItem_41 : decode cX9_readsItem 41 = .ok (.iastore, 1) := dk_79 (dk_at dksX9_readsItem_1 18 rfl rfl)
theorem dX9_readsItem_42 : decode cX9_readsItem 42 = .ok (.aload_n 0, 1) := dk_42 (dk_at dksX9_readsItem_1 19 rfl rfl)
theorem dX9_readsItem_43 : decode cX9_readsItem 43 = .ok (.getfield 22, 3) := dk_180 0 22 (dk_at dksX9_readsItem_1 20 rfl rfl)
theorem dX9_readsItem_46 : decode cX9_readsItem 46 = .ok (.iload_n 2, 1) := dk_28 (dk_at dksX9_readsItem_1 23 rfl rfl)
theorem dX9_readsItem_47 : decode cX9_readsItem 47 = .ok (.aload_n 0, 1) := dk_42 (dk_at dksX9_readsItem_2 0 rfl rfl)
theorem dX9_readsItem_48 : decode cX9_readsItem 48 = .ok (.iconst 0, 1) := dk_3 (dk_at dksX9_readsItem_2 1 rfl rfl)
theorem dX9_readsItem_49 : decode cX9_readsItem 49 = .ok (.bipush 6, 2) := dk_16 6 (dk_at dksX9_readsItem_2 2 rfl rfl)
theorem dX9_readsItem_51 : decode cX9_readsItem 51 = .ok (.invokevirtual 109, 3) := dk_182 0 109 (dk_at dksX9_readsItem_2 4 rfl rfl)
theorem dX9_readsItem_54 : decode cX9_readsItem 54 = .ok (.iastore, 1) := dk_79 (dk_at dksX9_readsItem_2 7 rfl rfl)
theorem dX9_readsItem_55 : decode cX9_readsItem 55 = .ok (.aload_n 0, 1) := dk_42 (dk_at dksX9_readsItem_2 8 rfl rfl)
theorem dX9_readsItem_56 : decode cX9_readsItem 56 = .ok (.getfield 13, 3) := dk_180 0 13 (dk_at dksX9_readsItem_2 9 rfl rfl)
theorem dX9_readsItem_59 : decode cX9_readsItem 59 = .ok (.iconst 2, 1) := dk_5 (dk_at dksX9_readsItem_2 12 rfl rfl)
theorem dX9_readsItem_60 : decode cX9_readsItem 60 = .ok (.dup2, 1) := dk_92 (dk_at dksX9_readsItem_2 13 rfl rfl)
theorem dX9_readsItem_61 : decode cX9_readsItem 61 = .ok (.iaload, 1) := dk_46 (dk_at dksX9_readsItem_2 14 rfl rfl)
theorem dX9_readsItem_62 : decode cX9_readsItem 62 = .ok (.iconst 1, 1) := dk_4 (dk_at dksX9_readsItem_2 15 rfl rfl)
theorem dX9_readsItem_63 : decode cX9_readsItem 63 = .ok (.iadd, 1) := dk_96 (dk_at dksX9_readsItem_2 16 rfl rfl)
theorem dX9_readsItem_64 : decode cX9_readsItem 64 = .ok (.iastore, 1) := dk_79 (dk_at dksX9_readsItem_2 17 rfl rfl)
theorem dX9_readsItem_65 : decode cX9_readsItem 65 = .ok (.goto 204, 3) := dk_167 0 204 (dk_at dksX9_readsItem_2 18 rfl rfl)
theorem dX9_readsItem_68 : decode cX9_readsItem 68 = .ok (.iload_n 1, 1) := dk_27 (dk_at dksX9_readsItem_2 21 rfl rfl)
theorem dX9_readsItem_69 : decode cX9_readsItem 69 = .ok (.bipush 100, 2) := dk_16 100 (dk_at dksX9_readsItem_2 22 rfl rfl)
theorem dX9_readsItem_71 : decode cX9_readsItem 71 = .ok (.if_icmp .ne 113, 3) := dk_160 0 113 (dk_at dksX9_readsItem_3 0 rfl rfl)
theorem dX9_readsItem_74 : decode cX9_readsItem 74 = .ok (.aload_n 0, 1) := dk_42 (dk_at dksX9_readsItem_3 3 rfl rfl)
theorem dX9_readsItem_75 : decode cX9_readsItem 75 = .ok (.iconst 0, 1) := dk_3 (dk_at dksX9_readsItem_3 4 rfl rfl)
theorem dX9_readsItem_76 : decode cX9_readsItem 76 = .ok (.aload_n 0, 1) := dk_42 (dk_at dksX9_readsItem_3 5 rfl rfl)
theorem dX9_readsItem_77 : decode cX9_readsItem 77 = .ok (.getfield 13, 3) := dk_180 0 13 (dk_at dksX9_readsItem_3 6 rfl rfl)
theorem dX9_readsItem_80 : decode cX9_readsItem 80 = .ok (.iconst 2, 1) := dk_5 (dk_at dksX9_readsItem_3 9 rfl rfl)
theorem dX9_readsItem_81 : decode cX9_readsItem 81 = .ok (.iaload, 1) := dk_46 (dk_at dksX9_readsItem_3 10 rfl rfl)
theorem dX9_readsItem_82 : decode cX9_readsItem 82 = .ok (.iconst 1, 1) := dk_4 (dk_at dksX9_readsItem_3 11 rfl rfl)
theorem dX9_readsItem_83 : decode cX9_readsItem 83 = .ok (.isub, 1) := dk_100 (dk_at dksX9_readsItem_3 12 rfl rfl)
theorem dX9_readsItem_84 : decode cX9_readsItem 84 = .ok (.invokevirtual 109, 3) := dk_182 0 109 (dk_at dksX9_readsItem_3 13 rfl rfl)
theorem dX9_readsItem_87 : decode cX9_readsItem 87 = .ok (.istore_n 2, 1) := dk_61 (dk_at dksX9_readsItem_3 16 rfl rfl)
theorem dX9_readsItem_88 : decode cX9_readsItem 88 = .ok (.aload_n 0, 1) := dk_42 (dk_at dksX9_readsItem_3 17 rfl rfl)
theorem dX9_readsItem_89 : decode cX9_readsItem 89 = .ok (.aload_n 0, 1) := dk_42 (dk_at dksX9_readsItem_3 18 rfl rfl)
theorem dX9_readsItem_90 : decode cX9_readsItem 90 = .ok (.getfield 89, 3) := dk_180 0 89 (dk_at dksX9_readsItem_3 19 rfl rfl)
theorem dX9_readsItem_93 : decode cX9_readsItem 93 = .ok (.iconst 2, 1) := dk_5 (dk_at dksX9_readsItem_3 22 rfl rfl)
theorem dX9_readsItem_94 : decode cX9_readsItem 94 = .ok (.if_icmp .ne 34, 3) := dk_160 0 34 (dk_at dksX9_readsItem_4 0 rfl rfl)
theorem dX9_readsItem_97 : decode cX9_readsItem 97 = .ok (.aload_n 0, 1) := dk_42 (dk_at dksX9_readsItem_4 3 rfl rfl)
theorem dX9_readsItem_98 : decode cX9_readsItem 98 = .ok (.getfield 92, 3) := dk_180 0 92 (dk_at dksX9_readsItem_4 4 rfl rfl)
theorem dX9_readsItem_101 : decode cX9_readsItem 101 = .ok (.iconst 0, 1) := dk_3 (dk_at dksX9_readsItem_4 7 rfl rfl)
theorem dX9_readsItem_102 : decode cX9_readsItem 102 = .ok (.aload_n 0, 1) := dk_42 (dk_at dksX9_readsItem_4 8 rfl rfl)
theorem dX9_readsItem_103 : decode cX9_readsItem 103 = .ok (.getfield 13, 3) := dk_180 0 13 (dk_at dksX9_readsItem_4 9 rfl rfl)
theorem dX9_readsItem_106 : decode cX9_readsItem 106 = .ok (.iconst 2, 1) := dk_5 (dk_at dksX9_readsItem_4 12 rfl rfl)
theorem dX9_readsItem_107 : decode cX9_readsItem 107 = .ok (.iaload, 1) := dk_46 (dk_at dksX9_readsItem_4 13 rfl rfl)
theorem dX9_readsItem_108 : decode cX9_readsItem 108 = .ok (.iconst 1, 1) := dk_4 (dk_at dksX9_readsItem_4 14 rfl rfl)
theorem dX9_readsItem_109 : decode cX9_readsItem 109 = .ok (.isub, 1) := dk_100 (dk_at dksX9_readsItem_4 15 rfl rfl)
theorem dX9_readsItem_110 : decode cX9_readsItem 110 = .ok (.invokestatic 72, 3) := dk_184 0 72 (dk_at dksX9_readsItem_4 16 rfl rfl)
theorem dX9_readsItem_113 : decode cX9_readsItem 113 = .ok (.ifCond .eq 15, 3) := dk_153 0 15 (dk_at dksX9_readsItem_4 19 rfl rfl)
theorem dX9_readsItem_116 : decode cX9_readsItem 116 = .ok (.aload_n 0, 1) := dk_42 (dk_at dksX9_readsItem_4 22 rfl rfl)
theorem dX9_readsItem_117 : decode cX9_readsItem 117 = .ok (.getfield 92, 3) := dk_180 0 92 (dk_at dksX9_readsItem_5 0 rfl rfl)
theorem dX9_readsItem_120 : decode cX9_readsItem 120 = .ok (.iload_n 2, 1) := dk_28 (dk_at dksX9_readsItem_5 3 rfl rfl)
theorem dX9_readsItem_121 : decode cX9_readsItem 121 = .ok (.if_icmp .eq 7, 3) := dk_159 0 7 (dk_at dksX9_readsItem_5 4 rfl rfl)
theorem dX9_readsItem_124 : decode cX9_readsItem 124 = .ok (.iconst 1, 1) := dk_4 (dk_at dksX9_readsItem_5 7 rfl rfl)
theorem dX9_readsItem_125 : decode cX9_readsItem 125 = .ok (.goto 4, 3) := dk_167 0 4 (dk_at dksX9_readsItem_5 8 rfl rfl)
theorem dX9_readsItem_128 : decode cX9_readsItem 128 = .ok (.iconst 0, 1) := dk_3 (dk_at dksX9_readsItem_5 11 rfl rfl)
theorem dX9_readsItem_129 : decode cX9_readsItem 129 = .ok (.invokevirtual 105, 3) := dk_182 0 105 (dk_at dksX9_readsItem_5 12 rfl rfl)
theorem dX9_readsItem_132 : decode cX9_readsItem 132 = .ok (.istore_n 3, 1) := dk_62 (dk_at dksX9_readsItem_5 15 rfl rfl)
theorem dX9_readsItem_133 : decode cX9_readsItem 133 = .ok (.aload_n 0, 1) := dk_42 (dk_at dksX9_readsItem_5 16 rfl rfl)
theorem dX9_readsItem_134 : decode cX9_readsItem 134 = .ok (.iconst 1, 1) := dk_4 (dk_at dksX9_readsItem_5 17 rfl rfl)
theorem dX9_readsItem_135 : decode cX9_readsItem 135 = .ok (.bipush 9, 2) := dk_16 9 (dk_at dksX9_readsItem_5 18 rfl rfl)
theorem dX9_readsItem_137 : decode cX9_readsItem 137 = .ok (.invokevirtual 109, 3) := dk_182 0 109 (dk_at dksX9_readsItem_5 20 rfl rfl)
theorem dX9_readsItem_140 : decode cX9_readsItem 140 = .ok (.istore 4, 2) := dk_54 4 (dk_at dksX9_readsItem_6 0 rfl rfl)
theorem dX9_readsItem_142 : decode cX9_readsItem 142 = .ok (.aload_n 0, 1) := dk_42 (dk_at dksX9_readsItem_6 2 rfl rfl)
theorem dX9_readsItem_143 : decode cX9_readsItem 143 = .ok (.invokevirtual 98, 3) := dk_182 0 98 (dk_at dksX9_readsItem_6 3 rfl rfl)
theorem dX9_readsItem_146 : decode cX9_readsItem 146 = .ok (.ifCond .eq 35, 3) := dk_153 0 35 (dk_at dksX9_readsItem_6 6 rfl rfl)
theorem dX9_readsItem_149 : decode cX9_readsItem 149 = .ok (.aload_n 0, 1) := dk_42 (dk_at dksX9_readsItem_6 9 rfl rfl)
theorem dX9_readsItem_150 : decode cX9_readsItem 150 = .ok (.getfield 25, 3) := dk_180 0 25 (dk_at dksX9_readsItem_6 10 rfl rfl)
theorem dX9_readsItem_153 : decode cX9_readsItem 153 = .ok (.bipush 36, 2) := dk_16 36 (dk_at dksX9_readsItem_6 13 rfl rfl)
theorem dX9_readsItem_155 : decode cX9_readsItem 155 = .ok (.bipush 6, 2) := dk_16 6 (dk_at dksX9_readsItem_6 15 rfl rfl)
theorem dX9_readsItem_157 : decode cX9_readsItem 157 = .ok (.iload_n 2, 1) := dk_28 (dk_at dksX9_readsItem_6 17 rfl rfl)
theorem dX9_readsItem_158 : decode cX9_readsItem 158 = .ok (.imul, 1) := dk_104 (dk_at dksX9_readsItem_6 18 rfl rfl)
theorem dX9_readsItem_159 : decode cX9_readsItem 159 = .ok (.iadd, 1) := dk_96 (dk_at dksX9_readsItem_6 19 rfl rfl)
theorem dX9_readsItem_160 : decode cX9_readsItem 160 = .ok (.iload_n 3, 1) := dk_29 (dk_at dksX9_readsItem_6 20 rfl rfl)
theorem dX9_readsItem_161 : decode cX9_readsItem 161 = .ok (.iadd, 1) := dk_96 (dk_at dksX9_readsItem_6 21 rfl rfl)
theorem dX9_readsItem_162 : decode cX9_readsItem 162 = .ok (.iload 4, 2) := dk_21 4 (dk_at dksX9_readsItem_6 22 rfl rfl)
theorem dX9_readsItem_164 : decode cX9_readsItem 164 = .ok (.iastore, 1) := dk_79 (dk_at dksX9_readsItem_7 0 rfl rfl)
theorem dX9_readsItem_165 : decode cX9_readsItem 165 = .ok (.aload_n 0, 1) := dk_42 (dk_at dksX9_readsItem_7 1 rfl rfl)
theorem dX9_readsItem_166 : decode cX9_readsItem 166 = .ok (.getfield 25, 3) := dk_180 0 25 (dk_at dksX9_readsItem_7 2 rfl rfl)
theorem dX9_readsItem_169 : decode cX9_readsItem 169 = .ok (.bipush 36, 2) := dk_16 36 (dk_at dksX9_readsItem_7 5 rfl rfl)
theorem dX9_readsItem_171 : decode cX9_readsItem 171 = .ok (.bipush 6, 2) := dk_16 6 (dk_at dksX9_readsItem_7 7 rfl rfl)
theorem dX9_readsItem_173 : decode cX9_readsItem 173 = .ok (.iload_n 3, 1) := dk_29 (dk_at dksX9_readsItem_7 9 rfl rfl)
theorem dX9_readsItem_174 : decode cX9_readsItem 174 = .ok (.imul, 1) := dk_104 (dk_at dksX9_readsItem_7 10 rfl rfl)
theorem dX9_readsItem_175 : decode cX9_readsItem 175 = .ok (.iadd, 1) := dk_96 (dk_at dksX9_readsItem_7 11 rfl rfl)
theorem dX9_readsItem_176 : decode cX9_readsItem 176 = .ok (.iload_n 2, 1) := dk_28 (dk_at dksX9_readsItem_7 12 rfl rfl)
theorem dX9_readsItem_177 : decode cX9_readsItem 177 = .ok (.iadd, 1) := dk_96 (dk_at dksX9_readsItem_7 13 rfl rfl)
theorem dX9_readsItem_178 : decode cX9_readsItem 178 = .ok (.iload 4, 2) := dk_21 4 (dk_at dksX9_readsItem_7 14 rfl rfl)
theorem dX9_readsItem_180 : decode cX9_readsItem 180 = .ok (.iastore, 1) := dk_79 (dk_at dksX9_readsItem_7 16 rfl rfl)
theorem dX9_readsItem_181 : decode cX9_readsItem 181 = .ok (.goto 88, 3) := dk_167 0 88 (dk_at dksX9_readsItem_7 17 rfl rfl)
theorem dX9_readsItem_184 : decode cX9_readsItem 184 = .ok (.aload_n 0, 1) := dk_42 (dk_at dksX9_readsItem_7 20 rfl rfl)
theorem dX9_readsItem_185 : decode cX9_readsItem 185 = .ok (.getfield 28, 3) := dk_180 0 28 (dk_at dksX9_readsItem_7 21 rfl rfl)
theorem dX9_readsItem_188 : decode cX9_readsItem 188 = .ok (.bipush 6, 2) := dk_16 6 (dk_at dksX9_readsItem_8 0 rfl rfl)
theorem dX9_readsItem_190 : decode cX9_readsItem 190 = .ok (.aload_n 0, 1) := dk_42 (dk_at dksX9_readsItem_8 2 rfl rfl)
theorem dX9_readsItem_191 : decode cX9_readsItem 191 = .ok (.getfield 13, 3) := dk_180 0 13 (dk_at dksX9_readsItem_8 3 rfl rfl)
theorem dX9_readsItem_194 : decode cX9_readsItem 194 = .ok (.iconst 3, 1) := dk_6 (dk_at dksX9_readsItem_8 6 rfl rfl)
theorem dX9_readsItem_195 : decode cX9_readsItem 195 = .ok (.iaload, 1) := dk_46 (dk_at dksX9_readsItem_8 7 rfl rfl)
theorem dX9_readsItem_196 : decode cX9_readsItem 196 = .ok (.iadd, 1) := dk_96 (dk_at dksX9_readsItem_8 8 rfl rfl)
theorem dX9_readsItem_197 : decode cX9_readsItem 197 = .ok (.aload_n 0, 1) := dk_42 (dk_at dksX9_readsItem_8 9 rfl rfl)
theorem dX9_readsItem_198 : decode cX9_readsItem 198 = .ok (.iconst 0, 1) := dk_3 (dk_at dksX9_readsItem_8 10 rfl rfl)
theorem dX9_readsItem_199 : decode cX9_readsItem 199 = .ok (.aload_n 0, 1) := dk_42 (dk_at dksX9_readsItem_8 11 rfl rfl)
theorem dX9_readsItem_200 : decode cX9_readsItem 200 = .ok (.getfield 13, 3) := dk_180 0 13 (dk_at dksX9_readsItem_8 12 rfl rfl)
theorem dX9_readsItem_203 : decode cX9_readsItem 203 = .ok (.iconst 2, 1) := dk_5 (dk_at dksX9_readsItem_8 15 rfl rfl)
theorem dX9_readsItem_204 : decode cX9_readsItem 204 = .ok (.iaload, 1) := dk_46 (dk_at dksX9_readsItem_8 16 rfl rfl)
theorem dX9_readsItem_205 : decode cX9_readsItem 205 = .ok (.iconst 1, 1) := dk_4 (dk_at dksX9_readsItem_8 17 rfl rfl)
theorem dX9_readsItem_206 : decode cX9_readsItem 206 = .ok (.isub, 1) := dk_100 (dk_at dksX9_readsItem_8 18 rfl rfl)
theorem dX9_readsItem_207 : decode cX9_readsItem 207 = .ok (.invokevirtual 109, 3) := dk_182 0 109 (dk_at dksX9_readsItem_8 19 rfl rfl)
theorem dX9_readsItem_210 : decode cX9_readsItem 210 = .ok (.iastore, 1) := dk_79 (dk_at dksX9_readsItem_8 22 rfl rfl)
theorem dX9_readsItem_211 : decode cX9_readsItem 211 = .ok (.aload_n 0, 1) := dk_42 (dk_at dksX9_readsItem_8 23 rfl rfl)
theorem dX9_readsItem_212 : decode cX9_readsItem 212 = .ok (.getfield 31, 3) := dk_180 0 31 (dk_at dksX9_readsItem_9 0 rfl rfl)
theorem dX9_readsItem_215 : decode cX9_readsItem 215 = .ok (.bipush 6, 2) := dk_16 6 (dk_at dksX9_readsItem_9 3 rfl rfl)
theorem dX9_readsItem_217 : decode cX9_readsItem 217 = .ok (.aload_n 0, 1) := dk_42 (dk_at dksX9_readsItem_9 5 rfl rfl)
theorem dX9_readsItem_218 : decode cX9_readsItem 218 = .ok (.getfield 13, 3) := dk_180 0 13 (dk_at dksX9_readsItem_9 6 rfl rfl)
theorem dX9_readsItem_221 : decode cX9_readsItem 221 = .ok (.iconst 3, 1) := dk_6 (dk_at dksX9_readsItem_9 9 rfl rfl)
theorem dX9_readsItem_222 : decode cX9_readsItem 222 = .ok (.iaload, 1) := dk_46 (dk_at dksX9_readsItem_9 10 rfl rfl)
theorem dX9_readsItem_223 : decode cX9_readsItem 223 = .ok (.iadd, 1) := dk_96 (dk_at dksX9_readsItem_9 11 rfl rfl)
theorem dX9_readsItem_224 : decode cX9_readsItem 224 = .ok (.aload_n 0, 1) := dk_42 (dk_at dksX9_readsItem_9 12 rfl rfl)
theorem dX9_readsItem_225 : decode cX9_readsItem 225 = .ok (.iconst 0, 1) := dk_3 (dk_at dksX9_readsItem_9 13 rfl rfl)
theorem dX9_readsItem_226 : decode cX9_readsItem 226 = .ok (.aload_n 0, 1) := dk_42 (dk_at dksX9_readsItem_9 14 rfl rfl)
theorem dX9_readsItem_227 : decode cX9_readsItem 227 = .ok (.getfield 13, 3) := dk_180 0 13 (dk_at dksX9_readsItem_9 15 rfl rfl)
theorem dX9_readsItem_230 : decode cX9_readsItem 230 = .ok (.iconst 2, 1) := dk_5 (dk_at dksX9_readsItem_9 18 rfl rfl)
theorem dX9_readsItem_231 : decode cX9_readsItem 231 = .ok (.iaload, 1) := dk_46 (dk_at dksX9_readsItem_9 19 rfl rfl)
theorem dX9_readsItem_232 : decode cX9_readsItem 232 = .ok (.iconst 1, 1) := dk_4 (dk_at dksX9_readsItem_9 20 rfl rfl)
theorem dX9_readsItem_233 : decode cX9_readsItem 233 = .ok (.isub, 1) := dk_100 (dk_at dksX9_readsItem_9 21 rfl rfl)
theorem dX9_readsItem_234 : decode cX9_readsItem 234 = .ok (.invokevirtual 109, 3) := dk_182 0 109 (dk_at dksX9_readsItem_10 0 rfl rfl)
theorem dX9_readsItem_237 : decode cX9_readsItem 237 = .ok (.iastore, 1) := dk_79 (dk_at dksX9_readsItem_10 3 rfl rfl)
theorem dX9_readsItem_238 : decode cX9_readsItem 238 = .ok (.aload_n 0, 1) := dk_42 (dk_at dksX9_readsItem_10 4 rfl rfl)
theorem dX9_readsItem_239 : decode cX9_readsItem 239 = .ok (.getfield 34, 3) := dk_180 0 34 (dk_at dksX9_readsItem_10 5 rfl rfl)
theorem dX9_readsItem_242 : decode cX9_readsItem 242 = .ok (.bipush 6, 2) := dk_16 6 (dk_at dksX9_readsItem_10 8 rfl rfl)
theorem dX9_readsItem_244 : decode cX9_readsItem 244 = .ok (.aload_n 0, 1) := dk_42 (dk_at dksX9_readsItem_10 10 rfl rfl)
theorem dX9_readsItem_245 : decode cX9_readsItem 245 = .ok (.getfield 13, 3) := dk_180 0 13 (dk_at dksX9_readsItem_10 11 rfl rfl)
theorem dX9_readsItem_248 : decode cX9_readsItem 248 = .ok (.iconst 3, 1) := dk_6 (dk_at dksX9_readsItem_10 14 rfl rfl)
theorem dX9_readsItem_249 : decode cX9_readsItem 249 = .ok (.iaload, 1) := dk_46 (dk_at dksX9_readsItem_10 15 rfl rfl)
theorem dX9_readsItem_250 : decode cX9_readsItem 250 = .ok (.iadd, 1) := dk_96 (dk_at dksX9_readsItem_10 16 rfl rfl)
theorem dX9_readsItem_251 : decode cX9_readsItem 251 = .ok (.aload_n 0, 1) := dk_42 (dk_at dksX9_readsItem_10 17 rfl rfl)
theorem dX9_readsItem_252 : decode cX9_readsItem 252 = .ok (.iconst 0, 1) := dk_3 (dk_at dksX9_readsItem_10 18 rfl rfl)
theorem dX9_readsItem_253 : decode cX9_readsItem 253 = .ok (.bipush 60, 2) := dk_16 60 (dk_at dksX9_readsItem_10 19 rfl rfl)
theorem dX9_readsItem_255 : decode cX9_readsItem 255 = .ok (.invokevirtual 109, 3) := dk_182 0 109 (dk_at dksX9_readsItem_10 21 rfl rfl)
theorem dX9_readsItem_258 : decode cX9_readsItem 258 = .ok (.iastore, 1) := dk_79 (dk_at dksX9_readsItem_11 0 rfl rfl)
theorem dX9_readsItem_259 : decode cX9_readsItem 259 = .ok (.aload_n 0, 1) := dk_42 (dk_at dksX9_readsItem_11 1 rfl rfl)
theorem dX9_readsItem_260 : decode cX9_readsItem 260 = .ok (.getfield 13, 3) := dk_180 0 13 (dk_at dksX9_readsItem_11 2 rfl rfl)
theorem dX9_readsItem_263 : decode cX9_readsItem 263 = .ok (.iconst 3, 1) := dk_6 (dk_at dksX9_readsItem_11 5 rfl rfl)
theorem dX9_readsItem_264 : decode cX9_readsItem 264 = .ok (.dup2, 1) := dk_92 (dk_at dksX9_readsItem_11 6 rfl rfl)
theorem dX9_readsItem_265 : decode cX9_readsItem 265 = .ok (.iaload, 1) := dk_46 (dk_at dksX9_readsItem_11 7 rfl rfl)
theorem dX9_readsItem_266 : decode cX9_readsItem 266 = .ok (.iconst 1, 1) := dk_4 (dk_at dksX9_readsItem_11 8 rfl rfl)
theorem dX9_readsItem_267 : decode cX9_readsItem 267 = .ok (.iadd, 1) := dk_96 (dk_at dksX9_readsItem_11 9 rfl rfl)
theorem dX9_readsItem_268 : decode cX9_readsItem 268 = .ok (.iastore, 1) := dk_79 (dk_at dksX9_readsItem_11 10 rfl rfl)
theorem dX9_readsItem_269 : decode cX9_readsItem 269 = .ok (.return_, 1) := dk_177 (dk_at dksX9_readsItem_11 11 rfl rfl)
abbrev cX9_number : ByteArray := prog_13_method_10_code
def yX9_number : MethodName := ⟨RX9, "number", "(II)I"⟩
def dkwX9_number_1 : List UInt8 := [167, 0, 4, 3, 182, 0, 105, 172]
abbrev dktX9_number_1 : List UInt8 := dkwX9_number_1 ++ []
def dkwX9_number_0 : List UInt8 := [42, 42, 180, 0, 89, 5, 160, 0, 19, 42, 180, 0, 92, 27, 28, 184, 0, 72, 153, 0, 7, 4]
abbrev dktX9_number_0 : List UInt8 := dkwX9_number_0 ++ dktX9_number_1
theorem dksX9_number_0 : cX9_number.data.toList.drop 0 = dktX9_number_0 := by decide +kernel
theorem dksX9_number_1 : cX9_number.data.toList.drop 22 = dktX9_number_1 := dk_seg dksX9_number_0 22 rfl rfl
theorem dX9_number_0 : decode cX9_number 0 = .ok (.aload_n 0, 1) := dk_42 (dk_at dksX9_number_0 0 rfl rfl)
theorem dX9_number_1 : decode cX9_number 1 = .ok (.aload_n 0, 1) := dk_42 (dk_at dksX9_number_0 1 rfl rfl)
theorem dX9_number_2 : decode cX9_number 2 = .ok (.getfield 89, 3) := dk_180 0 89 (dk_at dksX9_number_0 2 rfl rfl)
theorem dX9_number_5 : decode cX9_number 5 = .ok (.iconst 2, 1) := dk_5 (dk_at dksX9_number_0 5 rfl rfl)
theorem dX9_number_6 : decode cX9_number 6 = .ok (.if_icmp .ne 19, 3) := dk_160 0 19 (dk_at dksX9_number_0 6 rfl rfl)
theorem dX9_number_9 : decode cX9_number 9 = .ok (.aload_n 0, 1) := dk_42 (dk_at dksX9_number_0 9 rfl rfl)
theorem dX9_number_10 : decode cX9_number 10 = .ok (.getfield 92, 3) := dk_180 0 92 (dk_at dksX9_number_0 10 rfl rfl)
theorem dX9_number_13 : decode cX9_number 13 = .ok (.iload_n 1, 1) := dk_27 (dk_at dksX9_number_0 13 rfl rfl)
theorem dX9_number_14 : decode cX9_number 14 = .ok (.iload_n 2, 1) := dk_28 (dk_at dksX9_number_0 14 rfl rfl)
theorem dX9_number_15 : decode cX9_number 15 = .ok (.invokestatic 72, 3) := dk_184 0 72 (dk_at dksX9_number_0 15 rfl rfl)
theorem dX9_number_18 : decode cX9_number 18 = .ok (.ifCond .eq 7, 3) := dk_153 0 7 (dk_at dksX9_number_0 18 rfl rfl)
theorem dX9_number_21 : decode cX9_number 21 = .ok (.iconst 1, 1) := dk_4 (dk_at dksX9_number_0 21 rfl rfl)
theorem dX9_number_22 : decode cX9_number 22 = .ok (.goto 4, 3) := dk_167 0 4 (dk_at dksX9_number_1 0 rfl rfl)
theorem dX9_number_25 : decode cX9_number 25 = .ok (.iconst 0, 1) := dk_3 (dk_at dksX9_number_1 3 rfl rfl)
theorem dX9_number_26 : decode cX9_number 26 = .ok (.invokevirtual 105, 3) := dk_182 0 105 (dk_at dksX9_number_1 4 rfl rfl)
theorem dX9_number_29 : decode cX9_number 29 = .ok (.ireturn, 1) := dk_172 (dk_at dksX9_number_1 7 rfl rfl)
abbrev cX9_settles : ByteArray := prog_13_method_13_code
def yX9_settles : MethodName := ⟨RX9, "settles", "()V"⟩
def dkwX9_settles_15 : List UInt8 := [3, 181, 0, 124, 42, 180, 0, 49, 3, 3, 84, 42, 180, 0, 49, 4, 3, 84, 177]
abbrev dktX9_settles_15 : List UInt8 := dkwX9_settles_15 ++ []
def dkwX9_settles_14 : List UInt8 := [79, 132, 2, 1, 167, 255, 191, 132, 1, 1, 167, 255, 173, 42, 3, 181, 0, 76, 42, 3, 181, 0, 121, 42]
abbrev dktX9_settles_14 : List UInt8 := dkwX9_settles_14 ++ dktX9_settles_15
def dkwX9_settles_13 : List UInt8 := [180, 0, 37, 28, 29, 42, 180, 0, 37, 28, 46, 162, 0, 7, 29, 167, 0, 9, 42, 180, 0, 37, 28, 46]
abbrev dktX9_settles_13 : List UInt8 := dkwX9_settles_13 ++ dktX9_settles_14
def dkwX9_settles_12 : List UInt8 := [108, 16, 6, 104, 27, 96, 46, 42, 180, 0, 37, 16, 6, 27, 104, 28, 16, 6, 112, 96, 46, 96, 62, 42]
abbrev dktX9_settles_12 : List UInt8 := dkwX9_settles_12 ++ dktX9_settles_13
def dkwX9_settles_11 : List UInt8 := [42, 180, 0, 13, 3, 46, 162, 0, 79, 3, 61, 28, 16, 36, 162, 0, 65, 42, 180, 0, 37, 28, 16, 6]
abbrev dktX9_settles_11 : List UInt8 := dkwX9_settles_11 ++ dktX9_settles_12
def dkwX9_settles_10 : List UInt8 := [158, 0, 12, 42, 180, 0, 25, 27, 46, 167, 0, 5, 18, 120, 79, 132, 1, 1, 167, 255, 191, 3, 60, 27]
abbrev dktX9_settles_10 : List UInt8 := dkwX9_settles_10 ++ dktX9_settles_11
def dkwX9_settles_9 : List UInt8 := [27, 27, 16, 6, 108, 27, 16, 6, 112, 160, 0, 7, 3, 167, 0, 23, 42, 180, 0, 25, 27, 46]
abbrev dktX9_settles_9 : List UInt8 := dkwX9_settles_9 ++ dktX9_settles_10
def dkwX9_settles_8 : List UInt8 := [16, 36, 162, 0, 65, 42, 180, 0, 25, 27, 42, 180, 0, 25, 16, 36, 27, 96, 46, 79, 42, 180, 0, 37]
abbrev dktX9_settles_8 : List UInt8 := dkwX9_settles_8 ++ dktX9_settles_9
def dkwX9_settles_7 : List UInt8 := [27, 46, 167, 0, 12, 42, 180, 0, 16, 16, 6, 27, 96, 46, 79, 132, 1, 1, 167, 255, 118, 3, 60, 27]
abbrev dktX9_settles_7 : List UInt8 := dkwX9_settles_7 ++ dktX9_settles_8
def dkwX9_settles_6 : List UInt8 := [27, 96, 42, 180, 0, 16, 16, 6, 27, 96, 46, 42, 180, 0, 19, 27, 46, 162, 0, 12, 42, 180, 0, 19]
abbrev dktX9_settles_6 : List UInt8 := dkwX9_settles_6 ++ dktX9_settles_7
def dkwX9_settles_5 : List UInt8 := [180, 0, 34, 16, 6, 27, 96, 46, 79, 42, 180, 0, 40, 5, 27, 96, 27, 79, 42, 180, 0, 40, 16, 8]
abbrev dktX9_settles_5 : List UInt8 := dkwX9_settles_5 ++ dktX9_settles_6
def dkwX9_settles_4 : List UInt8 := [46, 79, 42, 180, 0, 31, 27, 42, 180, 0, 31, 16, 6, 27, 96, 46, 79, 42, 180, 0, 34, 27, 42]
abbrev dktX9_settles_4 : List UInt8 := dkwX9_settles_4 ++ dktX9_settles_5
def dkwX9_settles_3 : List UInt8 := [27, 42, 180, 0, 22, 16, 6, 27, 96, 46, 79, 42, 180, 0, 28, 27, 42, 180, 0, 28, 16, 6, 27, 96]
abbrev dktX9_settles_3 : List UInt8 := dkwX9_settles_3 ++ dktX9_settles_4
def dkwX9_settles_2 : List UInt8 := [16, 6, 162, 0, 138, 42, 180, 0, 19, 27, 42, 180, 0, 19, 16, 6, 27, 96, 46, 79, 42, 180, 0, 22]
abbrev dktX9_settles_2 : List UInt8 := dkwX9_settles_2 ++ dktX9_settles_3
def dkwX9_settles_1 : List UInt8 := [3, 60, 27, 16, 56, 162, 0, 16, 42, 180, 0, 40, 27, 3, 79, 132, 1, 1, 167, 255, 240, 3, 60, 27]
abbrev dktX9_settles_1 : List UInt8 := dkwX9_settles_1 ++ dktX9_settles_2
def dkwX9_settles_0 : List UInt8 := [42, 180, 0, 13, 3, 42, 180, 0, 13, 5, 46, 79, 42, 180, 0, 13, 4, 42, 180, 0, 13, 6, 46, 79]
abbrev dktX9_settles_0 : List UInt8 := dkwX9_settles_0 ++ dktX9_settles_1
theorem dksX9_settles_0 : cX9_settles.data.toList.drop 0 = dktX9_settles_0 := by decide +kernel
theorem dksX9_settles_1 : cX9_settles.data.toList.drop 24 = dktX9_settles_1 := dk_seg dksX9_settles_0 24 rfl rfl
theorem dksX9_settles_2 : cX9_settles.data.toList.drop 48 = dktX9_settles_2 := dk_seg dksX9_settles_1 24 rfl rfl
theorem dksX9_settles_3 : cX9_settles.data.toList.drop 72 = dktX9_settles_3 := dk_seg dksX9_settles_2 24 rfl rfl
theorem dksX9_settles_4 : cX9_settles.data.toList.drop 96 = dktX9_settles_4 := dk_seg dksX9_settles_3 24 rfl rfl
theorem dksX9_settles_5 : cX9_settles.data.toList.drop 119 = dktX9_settles_5 := dk_seg dksX9_settles_4 23 rfl rfl
theorem dksX9_settles_6 : cX9_settles.data.toList.drop 143 = dktX9_settles_6 := dk_seg dksX9_settles_5 24 rfl rfl
theorem dksX9_settles_7 : cX9_settles.data.toList.drop 167 = dktX9_settles_7 := dk_seg dksX9_settles_6 24 rfl rfl
theorem dksX9_settles_8 : cX9_settles.data.toList.drop 191 = dktX9_settles_8 := dk_seg dksX9_settles_7 24 rfl rfl
theorem dksX9_settles_9 : cX9_settles.data.toList.drop 215 = dktX9_settles_9 := dk_seg dksX9_settles_8 24 rfl rfl
theorem dksX9_settles_10 : cX9_settles.data.toList.drop 237 = dktX9_settles_10 := dk_seg dksX9_settles_9 22 rfl rfl
theorem dksX9_settles_11 : cX9_settles.data.toList.drop 261 = dktX9_settles_11 := dk_seg dksX9_settles_10 24 rfl rfl
theorem dksX9_settles_12 : cX9_settles.data.toList.drop 285 = dktX9_settles_12 := dk_seg dksX9_settles_11 24 rfl rfl
theorem dksX9_settles_13 : cX9_settles.data.toList.drop 309 = dktX9_settles_13 := dk_seg dksX9_settles_12 24 rfl rfl
theorem dksX9_settles_14 : cX9_settles.data.toList.drop 333 = dktX9_settles_14 := dk_seg dksX9_settles_13 24 rfl rfl
theorem dksX9_settles_15 : cX9_settles.data.toList.drop 357 = dktX9_settles_15 := dk_seg dksX9_settles_14 24 rfl rfl
theorem dX9_settles_0 : decode cX9_settles 0 = .ok (.aload_n 0, 1) := dk_42 (dk_at dksX9_settles_0 0 rfl rfl)
theorem dX9_settles_1 : decode cX9_settles 1 = .ok (.getfield 13, 3) := dk_180 0 13 (dk_at dksX9_settles_0 1 rfl rfl)
theorem dX9_settles_4 : decode cX9_settles 4 = .ok (.iconst 0, 1) := dk_3 (dk_at dksX9_settles_0 4 rfl rfl)
theorem dX9_settles_5 : decode cX9_settles 5 = .ok (.aload_n 0, 1) := dk_42 (dk_at dksX9_settles_0 5 rfl rfl)
theorem dX9_settles_6 : decode cX9_settles 6 = .ok (.getfield 13, 3) := dk_180 0 13 (dk_at dksX9_settles_0 6 rfl rfl)
theorem dX9_settles_9 : decode cX9_settles 9 = .ok (.iconst 2, 1) := dk_5 (dk_at dksX9_settles_0 9 rfl rfl)
theorem dX9_settles_10 : decode cX9_settles 10 = .ok (.iaload, 1) := dk_46 (dk_at dksX9_settles_0 10 rfl rfl)
theorem dX9_settles_11 : decode cX9_settles 11 = .ok (.iastore, 1) := dk_79 (dk_at dksX9_settles_0 11 rfl rfl)
theorem dX9_settles_12 : decode cX9_settles 12 = .ok (.aload_n 0, 1) := dk_42 (dk_at dksX9_settles_0 12 rfl rfl)
theorem dX9_settles_13 : decode cX9_settles 13 = .ok (.getfield 13, 3) := dk_180 0 13 (dk_at dksX9_settles_0 13 rfl rfl)
theorem dX9_settles_16 : decode cX9_settles 16 = .ok (.iconst 1, 1) := dk_4 (dk_at dksX9_settles_0 16 rfl rfl)
theorem dX9_settles_17 : decode cX9_settles 17 = .ok (.aload_n 0, 1) := dk_42 (dk_at dksX9_settles_0 17 rfl rfl)
theorem dX9_settles_18 : decode cX9_settles 18 = .ok (.getfield 13, 3) := dk_180 0 13 (dk_at dksX9_settles_0 18 rfl rfl)
theorem dX9_settles_21 : decode cX9_settles 21 = .ok (.iconst 3, 1) := dk_6 (dk_at dksX9_settles_0 21 rfl rfl)
theorem dX9_settles_22 : decode cX9_settles 22 = .ok (.iaload, 1) := dk_46 (dk_at dksX9_settles_0 22 rfl rfl)
theorem dX9_settles_23 : decode cX9_settles 23 = .ok (.iastore, 1) := dk_79 (dk_at dksX9_settles_0 23 rfl rfl)
theorem dX9_settles_24 : decode cX9_settles 24 = .ok (.iconst 0, 1) := dk_3 (dk_at dksX9_settles_1 0 rfl rfl)
theorem dX9_settles_25 : decode cX9_settles 25 = .ok (.istore_n 1, 1) := dk_60 (dk_at dksX9_settles_1 1 rfl rfl)
theorem dX9_settles_26 : decode cX9_settles 26 = .ok (.iload_n 1, 1) := dk_27 (dk_at dksX9_settles_1 2 rfl rfl)
theorem dX9_settles_27 : decode cX9_settles 27 = .ok (.bipush 56, 2) := dk_16 56 (dk_at dksX9_settles_1 3 rfl rfl)
theorem dX9_settles_29 : decode cX9_settles 29 = .ok (.if_icmp .ge 16, 3) := dk_162 0 16 (dk_at dksX9_settles_1 5 rfl rfl)
theorem dX9_settles_32 : decode cX9_settles 32 = .ok (.aload_n 0, 1) := dk_42 (dk_at dksX9_settles_1 8 rfl rfl)
theorem dX9_settles_33 : decode cX9_settles 33 = .ok (.getfield 40, 3) := dk_180 0 40 (dk_at dksX9_settles_1 9 rfl rfl)
theorem dX9_settles_36 : decode cX9_settles 36 = .ok (.iload_n 1, 1) := dk_27 (dk_at dksX9_settles_1 12 rfl rfl)
theorem dX9_settles_37 : decode cX9_settles 37 = .ok (.iconst 0, 1) := dk_3 (dk_at dksX9_settles_1 13 rfl rfl)
theorem dX9_settles_38 : decode cX9_settles 38 = .ok (.iastore, 1) := dk_79 (dk_at dksX9_settles_1 14 rfl rfl)
theorem dX9_settles_39 : decode cX9_settles 39 = .ok (.iinc 1 1, 3) := dk_132 1 1 (dk_at dksX9_settles_1 15 rfl rfl)
theorem dX9_settles_42 : decode cX9_settles 42 = .ok (.goto (-16), 3) := dk_167 255 240 (dk_at dksX9_settles_1 18 rfl rfl)
theorem dX9_settles_45 : decode cX9_settles 45 = .ok (.iconst 0, 1) := dk_3 (dk_at dksX9_settles_1 21 rfl rfl)
theorem dX9_settles_46 : decode cX9_settles 46 = .ok (.istore_n 1, 1) := dk_60 (dk_at dksX9_settles_1 22 rfl rfl)
theorem dX9_settles_47 : decode cX9_settles 47 = .ok (.iload_n 1, 1) := dk_27 (dk_at dksX9_settles_1 23 rfl rfl)
theorem dX9_settles_48 : decode cX9_settles 48 = .ok (.bipush 6, 2) := dk_16 6 (dk_at dksX9_settles_2 0 rfl rfl)
theorem dX9_settles_50 : decode cX9_settles 50 = .ok (.if_icmp .ge 138, 3) := dk_162 0 138 (dk_at dksX9_settles_2 2 rfl rfl)
theorem dX9_settles_53 : decode cX9_settles 53 = .ok (.aload_n 0, 1) := dk_42 (dk_at dksX9_settles_2 5 rfl rfl)
theorem dX9_settles_54 : decode cX9_settles 54 = .ok (.getfield 19, 3) := dk_180 0 19 (dk_at dksX9_settles_2 6 rfl rfl)
theorem dX9_settles_57 : decode cX9_settles 57 = .ok (.iload_n 1, 1) := dk_27 (dk_at dksX9_settles_2 9 rfl rfl)
theorem dX9_settles_58 : decode cX9_settles 58 = .ok (.aload_n 0, 1) := dk_42 (dk_at dksX9_settles_2 10 rfl rfl)
theorem dX9_settles_59 : decode cX9_settles 59 = .ok (.getfield 19, 3) := dk_180 0 19 (dk_at dksX9_settles_2 11 rfl rfl)
theorem dX9_settles_62 : decode cX9_settles 62 = .ok (.bipush 6, 2) := dk_16 6 (dk_at dksX9_settles_2 14 rfl rfl)
theorem dX9_settles_64 : decode cX9_settles 64 = .ok (.iload_n 1, 1) := dk_27 (dk_at dksX9_settles_2 16 rfl rfl)
theorem dX9_settles_65 : decode cX9_settles 65 = .ok (.iadd, 1) := dk_96 (dk_at dksX9_settles_2 17 rfl rfl)
theorem dX9_settles_66 : decode cX9_settles 66 = .ok (.iaload, 1) := dk_46 (dk_at dksX9_settles_2 18 rfl rfl)
theorem dX9_settles_67 : decode cX9_settles 67 = .ok (.iastore, 1) := dk_79 (dk_at dksX9_settles_2 19 rfl rfl)
theorem dX9_settles_68 : decode cX9_settles 68 = .ok (.aload_n 0, 1) := dk_42 (dk_at dksX9_settles_2 20 rfl rfl)
theorem dX9_settles_69 : decode cX9_settles 69 = .ok (.getfield 22, 3) := dk_180 0 22 (dk_at dksX9_settles_2 21 rfl rfl)
theorem dX9_settles_72 : decode cX9_settles 72 = .ok (.iload_n 1, 1) := dk_27 (dk_at dksX9_settles_3 0 rfl rfl)
theorem dX9_settles_73 : decode cX9_settles 73 = .ok (.aload_n 0, 1) := dk_42 (dk_at dksX9_settles_3 1 rfl rfl)
theorem dX9_settles_74 : decode cX9_settles 74 = .ok (.getfield 22, 3) := dk_180 0 22 (dk_at dksX9_settles_3 2 rfl rfl)
theorem dX9_settles_77 : decode cX9_settles 77 = .ok (.bipush 6, 2) := dk_16 6 (dk_at dksX9_settles_3 5 rfl rfl)
theorem dX9_settles_79 : decode cX9_settles 79 = .ok (.iload_n 1, 1) := dk_27 (dk_at dksX9_settles_3 7 rfl rfl)
theorem dX9_settles_80 : decode cX9_settles 80 = .ok (.iadd, 1) := dk_96 (dk_at dksX9_settles_3 8 rfl rfl)
theorem dX9_settles_81 : decode cX9_settles 81 = .ok (.iaload, 1) := dk_46 (dk_at dksX9_settles_3 9 rfl rfl)
theorem dX9_settles_82 : decode cX9_settles 82 = .ok (.iastore, 1) := dk_79 (dk_at dksX9_settles_3 10 rfl rfl)
theorem dX9_settles_83 : decode cX9_settles 83 = .ok (.aload_n 0, 1) := dk_42 (dk_at dksX9_settles_3 11 rfl rfl)
theorem dX9_settles_84 : decode cX9_settles 84 = .ok (.getfield 28, 3) := dk_180 0 28 (dk_at dksX9_settles_3 12 rfl rfl)
theorem dX9_settles_87 : decode cX9_settles 87 = .ok (.iload_n 1, 1) := dk_27 (dk_at dksX9_settles_3 15 rfl rfl)
theorem dX9_settles_88 : decode cX9_settles 88 = .ok (.aload_n 0, 1) := dk_42 (dk_at dksX9_settles_3 16 rfl rfl)
theorem dX9_settles_89 : decode cX9_settles 89 = .ok (.getfield 28, 3) := dk_180 0 28 (dk_at dksX9_settles_3 17 rfl rfl)
theorem dX9_settles_92 : decode cX9_settles 92 = .ok (.bipush 6, 2) := dk_16 6 (dk_at dksX9_settles_3 20 rfl rfl)
theorem dX9_settles_94 : decode cX9_settles 94 = .ok (.iload_n 1, 1) := dk_27 (dk_at dksX9_settles_3 22 rfl rfl)
theorem dX9_settles_95 : decode cX9_settles 95 = .ok (.iadd, 1) := dk_96 (dk_at dksX9_settles_3 23 rfl rfl)
theorem dX9_settles_96 : decode cX9_settles 96 = .ok (.iaload, 1) := dk_46 (dk_at dksX9_settles_4 0 rfl rfl)
theorem dX9_settles_97 : decode cX9_settles 97 = .ok (.iastore, 1) := dk_79 (dk_at dksX9_settles_4 1 rfl rfl)
theorem dX9_settles_98 : decode cX9_settles 98 = .ok (.aload_n 0, 1) := dk_42 (dk_at dksX9_settles_4 2 rfl rfl)
theorem dX9_settles_99 : decode cX9_settles 99 = .ok (.getfield 31, 3) := dk_180 0 31 (dk_at dksX9_settles_4 3 rfl rfl)
theorem dX9_settles_102 : decode cX9_settles 102 = .ok (.iload_n 1, 1) := dk_27 (dk_at dksX9_settles_4 6 rfl rfl)
theorem dX9_settles_103 : decode cX9_settles 103 = .ok (.aload_n 0, 1) := dk_42 (dk_at dksX9_settles_4 7 rfl rfl)
theorem dX9_settles_104 : decode cX9_settles 104 = .ok (.getfield 31, 3) := dk_180 0 31 (dk_at dksX9_settles_4 8 rfl rfl)
theorem dX9_settles_107 : decode cX9_settles 107 = .ok (.bipush 6, 2) := dk_16 6 (dk_at dksX9_settles_4 11 rfl rfl)
theorem dX9_settles_109 : decode cX9_settles 109 = .ok (.iload_n 1, 1) := dk_27 (dk_at dksX9_settles_4 13 rfl rfl)
theorem dX9_settles_110 : decode cX9_settles 110 = .ok (.iadd, 1) := dk_96 (dk_at dksX9_settles_4 14 rfl rfl)
theorem dX9_settles_111 : decode cX9_settles 111 = .ok (.iaload, 1) := dk_46 (dk_at dksX9_settles_4 15 rfl rfl)
theorem dX9_settles_112 : decode cX9_settles 112 = .ok (.iastore, 1) := dk_79 (dk_at dksX9_settles_4 16 rfl rfl)
theorem dX9_settles_113 : decode cX9_settles 113 = .ok (.aload_n 0, 1) := dk_42 (dk_at dksX9_settles_4 17 rfl rfl)
theorem dX9_settles_114 : decode cX9_settles 114 = .ok (.getfield 34, 3) := dk_180 0 34 (dk_at dksX9_settles_4 18 rfl rfl)
theorem dX9_settles_117 : decode cX9_settles 117 = .ok (.iload_n 1, 1) := dk_27 (dk_at dksX9_settles_4 21 rfl rfl)
theorem dX9_settles_118 : decode cX9_settles 118 = .ok (.aload_n 0, 1) := dk_42 (dk_at dksX9_settles_4 22 rfl rfl)
theorem dX9_settles_119 : decode cX9_settles 119 = .ok (.getfield 34, 3) := dk_180 0 34 (dk_at dksX9_settles_5 0 rfl rfl)
theorem dX9_settles_122 : decode cX9_settles 122 = .ok (.bipush 6, 2) := dk_16 6 (dk_at dksX9_settles_5 3 rfl rfl)
theorem dX9_settles_124 : decode cX9_settles 124 = .ok (.iload_n 1, 1) := dk_27 (dk_at dksX9_settles_5 5 rfl rfl)
theorem dX9_settles_125 : decode cX9_settles 125 = .ok (.iadd, 1) := dk_96 (dk_at dksX9_settles_5 6 rfl rfl)
theorem dX9_settles_126 : decode cX9_settles 126 = .ok (.iaload, 1) := dk_46 (dk_at dksX9_settles_5 7 rfl rfl)
theorem dX9_settles_127 : decode cX9_settles 127 = .ok (.iastore, 1) := dk_79 (dk_at dksX9_settles_5 8 rfl rfl)
theorem dX9_settles_128 : decode cX9_settles 128 = .ok (.aload_n 0, 1) := dk_42 (dk_at dksX9_settles_5 9 rfl rfl)
theorem dX9_settles_129 : decode cX9_settles 129 = .ok (.getfield 40, 3) := dk_180 0 40 (dk_at dksX9_settles_5 10 rfl rfl)
theorem dX9_settles_132 : decode cX9_settles 132 = .ok (.iconst 2, 1) := dk_5 (dk_at dksX9_settles_5 13 rfl rfl)
theorem dX9_settles_133 : decode cX9_settles 133 = .ok (.iload_n 1, 1) := dk_27 (dk_at dksX9_settles_5 14 rfl rfl)
theorem dX9_settles_134 : decode cX9_settles 134 = .ok (.iadd, 1) := dk_96 (dk_at dksX9_settles_5 15 rfl rfl)
theorem dX9_settles_135 : decode cX9_settles 135 = .ok (.iload_n 1, 1) := dk_27 (dk_at dksX9_settles_5 16 rfl rfl)
theorem dX9_settles_136 : decode cX9_settles 136 = .ok (.iastore, 1) := dk_79 (dk_at dksX9_settles_5 17 rfl rfl)
theorem dX9_settles_137 : decode cX9_settles 137 = .ok (.aload_n 0, 1) := dk_42 (dk_at dksX9_settles_5 18 rfl rfl)
theorem dX9_settles_138 : decode cX9_settles 138 = .ok (.getfield 40, 3) := dk_180 0 40 (dk_at dksX9_settles_5 19 rfl rfl)
theorem dX9_settles_141 : decode cX9_settles 141 = .ok (.bipush 8, 2) := dk_16 8 (dk_at dksX9_settles_5 22 rfl rfl)
theorem dX9_settles_143 : decode cX9_settles 143 = .ok (.iload_n 1, 1) := dk_27 (dk_at dksX9_settles_6 0 rfl rfl)
theorem dX9_settles_144 : decode cX9_settles 144 = .ok (.iadd, 1) := dk_96 (dk_at dksX9_settles_6 1 rfl rfl)
theorem dX9_settles_145 : decode cX9_settles 145 = .ok (.aload_n 0, 1) := dk_42 (dk_at dksX9_settles_6 2 rfl rfl)
theorem dX9_settles_146 : decode cX9_settles 146 = .ok (.getfield 16, 3) := dk_180 0 16 (dk_at dksX9_settles_6 3 rfl rfl)
theorem dX9_settles_149 : decode cX9_settles 149 = .ok (.bipush 6, 2) := dk_16 6 (dk_at dksX9_settles_6 6 rfl rfl)
theorem dX9_settles_151 : decode cX9_settles 151 = .ok (.iload_n 1, 1) := dk_27 (dk_at dksX9_settles_6 8 rfl rfl)
theorem dX9_settles_152 : decode cX9_settles 152 = .ok (.iadd, 1) := dk_96 (dk_at dksX9_settles_6 9 rfl rfl)
theorem dX9_settles_153 : decode cX9_settles 153 = .ok (.iaload, 1) := dk_46 (dk_at dksX9_settles_6 10 rfl rfl)
theorem dX9_settles_154 : decode cX9_settles 154 = .ok (.aload_n 0, 1) := dk_42 (dk_at dksX9_settles_6 11 rfl rfl)
theorem dX9_settles_155 : decode cX9_settles 155 = .ok (.getfield 19, 3) := dk_180 0 19 (dk_at dksX9_settles_6 12 rfl rfl)
theorem dX9_settles_158 : decode cX9_settles 158 = .ok (.iload_n 1, 1) := dk_27 (dk_at dksX9_settles_6 15 rfl rfl)
theorem dX9_settles_159 : decode cX9_settles 159 = .ok (.iaload, 1) := dk_46 (dk_at dksX9_settles_6 16 rfl rfl)
theorem dX9_settles_160 : decode cX9_settles 160 = .ok (.if_icmp .ge 12, 3) := dk_162 0 12 (dk_at dksX9_settles_6 17 rfl rfl)
theorem dX9_settles_163 : decode cX9_settles 163 = .ok (.aload_n 0, 1) := dk_42 (dk_at dksX9_settles_6 20 rfl rfl)
theorem dX9_settles_164 : decode cX9_settles 164 = .ok (.getfield 19, 3) := dk_180 0 19 (dk_at dksX9_settles_6 21 rfl rfl)
theorem dX9_settles_167 : decode cX9_settles 167 = .ok (.iload_n 1, 1) := dk_27 (dk_at dksX9_settles_7 0 rfl rfl)
theorem dX9_settles_168 : decode cX9_settles 168 = .ok (.iaload, 1) := dk_46 (dk_at dksX9_settles_7 1 rfl rfl)
theorem dX9_settles_169 : decode cX9_settles 169 = .ok (.goto 12, 3) := dk_167 0 12 (dk_at dksX9_settles_7 2 rfl rfl)
theorem dX9_settles_172 : decode cX9_settles 172 = .ok (.aload_n 0, 1) := dk_42 (dk_at dksX9_settles_7 5 rfl rfl)
theorem dX9_settles_173 : decode cX9_settles 173 = .ok (.getfield 16, 3) := dk_180 0 16 (dk_at dksX9_settles_7 6 rfl rfl)
theorem dX9_settles_176 : decode cX9_settles 176 = .ok (.bipush 6, 2) := dk_16 6 (dk_at dksX9_settles_7 9 rfl rfl)
theorem dX9_settles_178 : decode cX9_settles 178 = .ok (.iload_n 1, 1) := dk_27 (dk_at dksX9_settles_7 11 rfl rfl)
theorem dX9_settles_179 : decode cX9_settles 179 = .ok (.iadd, 1) := dk_96 (dk_at dksX9_settles_7 12 rfl rfl)
theorem dX9_settles_180 : decode cX9_settles 180 = .ok (.iaload, 1) := dk_46 (dk_at dksX9_settles_7 13 rfl rfl)
theorem dX9_settles_181 : decode cX9_settles 181 = .ok (.iastore, 1) := dk_79 (dk_at dksX9_settles_7 14 rfl rfl)
theorem dX9_settles_182 : decode cX9_settles 182 = .ok (.iinc 1 1, 3) := dk_132 1 1 (dk_at dksX9_settles_7 15 rfl rfl)
theorem dX9_settles_185 : decode cX9_settles 185 = .ok (.goto (-138), 3) := dk_167 255 118 (dk_at dksX9_settles_7 18 rfl rfl)
theorem dX9_settles_188 : decode cX9_settles 188 = .ok (.iconst 0, 1) := dk_3 (dk_at dksX9_settles_7 21 rfl rfl)
theorem dX9_settles_189 : decode cX9_settles 189 = .ok (.istore_n 1, 1) := dk_60 (dk_at dksX9_settles_7 22 rfl rfl)
theorem dX9_settles_190 : decode cX9_settles 190 = .ok (.iload_n 1, 1) := dk_27 (dk_at dksX9_settles_7 23 rfl rfl)
theorem dX9_settles_191 : decode cX9_settles 191 = .ok (.bipush 36, 2) := dk_16 36 (dk_at dksX9_settles_8 0 rfl rfl)
theorem dX9_settles_193 : decode cX9_settles 193 = .ok (.if_icmp .ge 65, 3) := dk_162 0 65 (dk_at dksX9_settles_8 2 rfl rfl)
theorem dX9_settles_196 : decode cX9_settles 196 = .ok (.aload_n 0, 1) := dk_42 (dk_at dksX9_settles_8 5 rfl rfl)
theorem dX9_settles_197 : decode cX9_settles 197 = .ok (.getfield 25, 3) := dk_180 0 25 (dk_at dksX9_settles_8 6 rfl rfl)
theorem dX9_settles_200 : decode cX9_settles 200 = .ok (.iload_n 1, 1) := dk_27 (dk_at dksX9_settles_8 9 rfl rfl)
theorem dX9_settles_201 : decode cX9_settles 201 = .ok (.aload_n 0, 1) := dk_42 (dk_at dksX9_settles_8 10 rfl rfl)
theorem dX9_settles_202 : decode cX9_settles 202 = .ok (.getfield 25, 3) := dk_180 0 25 (dk_at dksX9_settles_8 11 rfl rfl)
theorem dX9_settles_205 : decode cX9_settles 205 = .ok (.bipush 36, 2) := dk_16 36 (dk_at dksX9_settles_8 14 rfl rfl)
theorem dX9_settles_207 : decode cX9_settles 207 = .ok (.iload_n 1, 1) := dk_27 (dk_at dksX9_settles_8 16 rfl rfl)
theorem dX9_settles_208 : decode cX9_settles 208 = .ok (.iadd, 1) := dk_96 (dk_at dksX9_settles_8 17 rfl rfl)
theorem dX9_settles_209 : decode cX9_settles 209 = .ok (.iaload, 1) := dk_46 (dk_at dksX9_settles_8 18 rfl rfl)
theorem dX9_settles_210 : decode cX9_settles 210 = .ok (.iastore, 1) := dk_79 (dk_at dksX9_settles_8 19 rfl rfl)
theorem dX9_settles_211 : decode cX9_settles 211 = .ok (.aload_n 0, 1) := dk_42 (dk_at dksX9_settles_8 20 rfl rfl)
theorem dX9_settles_212 : decode cX9_settles 212 = .ok (.getfield 37, 3) := dk_180 0 37 (dk_at dksX9_settles_8 21 rfl rfl)
theorem dX9_settles_215 : decode cX9_settles 215 = .ok (.iload_n 1, 1) := dk_27 (dk_at dksX9_settles_9 0 rfl rfl)
theorem dX9_settles_216 : decode cX9_settles 216 = .ok (.iload_n 1, 1) := dk_27 (dk_at dksX9_settles_9 1 rfl rfl)
theorem dX9_settles_217 : decode cX9_settles 217 = .ok (.bipush 6, 2) := dk_16 6 (dk_at dksX9_settles_9 2 rfl rfl)
theorem dX9_settles_219 : decode cX9_settles 219 = .ok (.idiv, 1) := dk_108 (dk_at dksX9_settles_9 4 rfl rfl)
theorem dX9_settles_220 : decode cX9_settles 220 = .ok (.iload_n 1, 1) := dk_27 (dk_at dksX9_settles_9 5 rfl rfl)
theorem dX9_settles_221 : decode cX9_settles 221 = .ok (.bipush 6, 2) := dk_16 6 (dk_at dksX9_settles_9 6 rfl rfl)
theorem dX9_settles_223 : decode cX9_settles 223 = .ok (.irem, 1) := dk_112 (dk_at dksX9_settles_9 8 rfl rfl)
theorem dX9_settles_224 : decode cX9_settles 224 = .ok (.if_icmp .ne 7, 3) := dk_160 0 7 (dk_at dksX9_settles_9 9 rfl rfl)
theorem dX9_settles_227 : decode cX9_settles 227 = .ok (.iconst 0, 1) := dk_3 (dk_at dksX9_settles_9 12 rfl rfl)
theorem dX9_settles_228 : decode cX9_settles 228 = .ok (.goto 23, 3) := dk_167 0 23 (dk_at dksX9_settles_9 13 rfl rfl)
theorem dX9_settles_231 : decode cX9_settles 231 = .ok (.aload_n 0, 1) := dk_42 (dk_at dksX9_settles_9 16 rfl rfl)
theorem dX9_settles_232 : decode cX9_settles 232 = .ok (.getfield 25, 3) := dk_180 0 25 (dk_at dksX9_settles_9 17 rfl rfl)
theorem dX9_settles_235 : decode cX9_settles 235 = .ok (.iload_n 1, 1) := dk_27 (dk_at dksX9_settles_9 20 rfl rfl)
theorem dX9_settles_236 : decode cX9_settles 236 = .ok (.iaload, 1) := dk_46 (dk_at dksX9_settles_9 21 rfl rfl)
theorem dX9_settles_237 : decode cX9_settles 237 = .ok (.ifCond .le 12, 3) := dk_158 0 12 (dk_at dksX9_settles_10 0 rfl rfl)
theorem dX9_settles_240 : decode cX9_settles 240 = .ok (.aload_n 0, 1) := dk_42 (dk_at dksX9_settles_10 3 rfl rfl)
theorem dX9_settles_241 : decode cX9_settles 241 = .ok (.getfield 25, 3) := dk_180 0 25 (dk_at dksX9_settles_10 4 rfl rfl)
theorem dX9_settles_244 : decode cX9_settles 244 = .ok (.iload_n 1, 1) := dk_27 (dk_at dksX9_settles_10 7 rfl rfl)
theorem dX9_settles_245 : decode cX9_settles 245 = .ok (.iaload, 1) := dk_46 (dk_at dksX9_settles_10 8 rfl rfl)
theorem dX9_settles_246 : decode cX9_settles 246 = .ok (.goto 5, 3) := dk_167 0 5 (dk_at dksX9_settles_10 9 rfl rfl)
theorem dX9_settles_249 : decode cX9_settles 249 = .ok (.ldc 120, 2) := dk_18 120 (dk_at dksX9_settles_10 12 rfl rfl)
theorem dX9_settles_251 : decode cX9_settles 251 = .ok (.iastore, 1) := dk_79 (dk_at dksX9_settles_10 14 rfl rfl)
theorem dX9_settles_252 : decode cX9_settles 252 = .ok (.iinc 1 1, 3) := dk_132 1 1 (dk_at dksX9_settles_10 15 rfl rfl)
theorem dX9_settles_255 : decode cX9_settles 255 = .ok (.goto (-65), 3) := dk_167 255 191 (dk_at dksX9_settles_10 18 rfl rfl)
theorem dX9_settles_258 : decode cX9_settles 258 = .ok (.iconst 0, 1) := dk_3 (dk_at dksX9_settles_10 21 rfl rfl)
theorem dX9_settles_259 : decode cX9_settles 259 = .ok (.istore_n 1, 1) := dk_60 (dk_at dksX9_settles_10 22 rfl rfl)
theorem dX9_settles_260 : decode cX9_settles 260 = .ok (.iload_n 1, 1) := dk_27 (dk_at dksX9_settles_10 23 rfl rfl)
theorem dX9_settles_261 : decode cX9_settles 261 = .ok (.aload_n 0, 1) := dk_42 (dk_at dksX9_settles_11 0 rfl rfl)
theorem dX9_settles_262 : decode cX9_settles 262 = .ok (.getfield 13, 3) := dk_180 0 13 (dk_at dksX9_settles_11 1 rfl rfl)
theorem dX9_settles_265 : decode cX9_settles 265 = .ok (.iconst 0, 1) := dk_3 (dk_at dksX9_settles_11 4 rfl rfl)
theorem dX9_settles_266 : decode cX9_settles 266 = .ok (.iaload, 1) := dk_46 (dk_at dksX9_settles_11 5 rfl rfl)
theorem dX9_settles_267 : decode cX9_settles 267 = .ok (.if_icmp .ge 79, 3) := dk_162 0 79 (dk_at dksX9_settles_11 6 rfl rfl)
theorem dX9_settles_270 : decode cX9_settles 270 = .ok (.iconst 0, 1) := dk_3 (dk_at dksX9_settles_11 9 rfl rfl)
theorem dX9_settles_271 : decode cX9_settles 271 = .ok (.istore_n 2, 1) := dk_61 (dk_at dksX9_settles_11 10 rfl rfl)
theorem dX9_settles_272 : decode cX9_settles 272 = .ok (.iload_n 2, 1) := dk_28 (dk_at dksX9_settles_11 11 rfl rfl)
theorem dX9_settles_273 : decode cX9_settles 273 = .ok (.bipush 36, 2) := dk_16 36 (dk_at dksX9_settles_11 12 rfl rfl)
theorem dX9_settles_275 : decode cX9_settles 275 = .ok (.if_icmp .ge 65, 3) := dk_162 0 65 (dk_at dksX9_settles_11 14 rfl rfl)
theorem dX9_settles_278 : decode cX9_settles 278 = .ok (.aload_n 0, 1) := dk_42 (dk_at dksX9_settles_11 17 rfl rfl)
theorem dX9_settles_279 : decode cX9_settles 279 = .ok (.getfield 37, 3) := dk_180 0 37 (dk_at dksX9_settles_11 18 rfl rfl)
theorem dX9_settles_282 : decode cX9_settles 282 = .ok (.iload_n 2, 1) := dk_28 (dk_at dksX9_settles_11 21 rfl rfl)
theorem dX9_settles_283 : decode cX9_settles 283 = .ok (.bipush 6, 2) := dk_16 6 (dk_at dksX9_settles_11 22 rfl rfl)
theorem dX9_settles_285 : decode cX9_settles 285 = .ok (.idiv, 1) := dk_108 (dk_at dksX9_settles_12 0 rfl rfl)
theorem dX9_settles_286 : decode cX9_settles 286 = .ok (.bipush 6, 2) := dk_16 6 (dk_at dksX9_settles_12 1 rfl rfl)
theorem dX9_settles_288 : decode cX9_settles 288 = .ok (.imul, 1) := dk_104 (dk_at dksX9_settles_12 3 rfl rfl)
theorem dX9_settles_289 : decode cX9_settles 289 = .ok (.iload_n 1, 1) := dk_27 (dk_at dksX9_settles_12 4 rfl rfl)
theorem dX9_settles_290 : decode cX9_settles 290 = .ok (.iadd, 1) := dk_96 (dk_at dksX9_settles_12 5 rfl rfl)
theorem dX9_settles_291 : decode cX9_settles 291 = .ok (.iaload, 1) := dk_46 (dk_at dksX9_settles_12 6 rfl rfl)
theorem dX9_settles_292 : decode cX9_settles 292 = .ok (.aload_n 0, 1) := dk_42 (dk_at dksX9_settles_12 7 rfl rfl)
theorem dX9_settles_293 : decode cX9_settles 293 = .ok (.getfield 37, 3) := dk_180 0 37 (dk_at dksX9_settles_12 8 rfl rfl)
theorem dX9_settles_296 : decode cX9_settles 296 = .ok (.bipush 6, 2) := dk_16 6 (dk_at dksX9_settles_12 11 rfl rfl)
theorem dX9_settles_298 : decode cX9_settles 298 = .ok (.iload_n 1, 1) := dk_27 (dk_at dksX9_settles_12 13 rfl rfl)
theorem dX9_settles_299 : decode cX9_settles 299 = .ok (.imul, 1) := dk_104 (dk_at dksX9_settles_12 14 rfl rfl)
theorem dX9_settles_300 : decode cX9_settles 300 = .ok (.iload_n 2, 1) := dk_28 (dk_at dksX9_settles_12 15 rfl rfl)
theorem dX9_settles_301 : decode cX9_settles 301 = .ok (.bipush 6, 2) := dk_16 6 (dk_at dksX9_settles_12 16 rfl rfl)
theorem dX9_settles_303 : decode cX9_settles 303 = .ok (.irem, 1) := dk_112 (dk_at dksX9_settles_12 18 rfl rfl)
theorem dX9_settles_304 : decode cX9_settles 304 = .ok (.iadd, 1) := dk_96 (dk_at dksX9_settles_12 19 rfl rfl)
theorem dX9_settles_305 : decode cX9_settles 305 = .ok (.iaload, 1) := dk_46 (dk_at dksX9_settles_12 20 rfl rfl)
theorem dX9_settles_306 : decode cX9_settles 306 = .ok (.iadd, 1) := dk_96 (dk_at dksX9_settles_12 21 rfl rfl)
theorem dX9_settles_307 : decode cX9_settles 307 = .ok (.istore_n 3, 1) := dk_62 (dk_at dksX9_settles_12 22 rfl rfl)
theorem dX9_settles_308 : decode cX9_settles 308 = .ok (.aload_n 0, 1) := dk_42 (dk_at dksX9_settles_12 23 rfl rfl)
theorem dX9_settles_309 : decode cX9_settles 309 = .ok (.getfield 37, 3) := dk_180 0 37 (dk_at dksX9_settles_13 0 rfl rfl)
theorem dX9_settles_312 : decode cX9_settles 312 = .ok (.iload_n 2, 1) := dk_28 (dk_at dksX9_settles_13 3 rfl rfl)
theorem dX9_settles_313 : decode cX9_settles 313 = .ok (.iload_n 3, 1) := dk_29 (dk_at dksX9_settles_13 4 rfl rfl)
theorem dX9_settles_314 : decode cX9_settles 314 = .ok (.aload_n 0, 1) := dk_42 (dk_at dksX9_settles_13 5 rfl rfl)
theorem dX9_settles_315 : decode cX9_settles 315 = .ok (.getfield 37, 3) := dk_180 0 37 (dk_at dksX9_settles_13 6 rfl rfl)
theorem dX9_settles_318 : decode cX9_settles 318 = .ok (.iload_n 2, 1) := dk_28 (dk_at dksX9_settles_13 9 rfl rfl)
theorem dX9_settles_319 : decode cX9_settles 319 = .ok (.iaload, 1) := dk_46 (dk_at dksX9_settles_13 10 rfl rfl)
theorem dX9_settles_320 : decode cX9_settles 320 = .ok (.if_icmp .ge 7, 3) := dk_162 0 7 (dk_at dksX9_settles_13 11 rfl rfl)
theorem dX9_settles_323 : decode cX9_settles 323 = .ok (.iload_n 3, 1) := dk_29 (dk_at dksX9_settles_13 14 rfl rfl)
theorem dX9_settles_324 : decode cX9_settles 324 = .ok (.goto 9, 3) := dk_167 0 9 (dk_at dksX9_settles_13 15 rfl rfl)
theorem dX9_settles_327 : decode cX9_settles 327 = .ok (.aload_n 0, 1) := dk_42 (dk_at dksX9_settles_13 18 rfl rfl)
theorem dX9_settles_328 : decode cX9_settles 328 = .ok (.getfield 37, 3) := dk_180 0 37 (dk_at dksX9_settles_13 19 rfl rfl)
theorem dX9_settles_331 : decode cX9_settles 331 = .ok (.iload_n 2, 1) := dk_28 (dk_at dksX9_settles_13 22 rfl rfl)
theorem dX9_settles_332 : decode cX9_settles 332 = .ok (.iaload, 1) := dk_46 (dk_at dksX9_settles_13 23 rfl rfl)
theorem dX9_settles_333 : decode cX9_settles 333 = .ok (.iastore, 1) := dk_79 (dk_at dksX9_settles_14 0 rfl rfl)
theorem dX9_settles_334 : decode cX9_settles 334 = .ok (.iinc 2 1, 3) := dk_132 2 1 (dk_at dksX9_settles_14 1 rfl rfl)
theorem dX9_settles_337 : decode cX9_settles 337 = .ok (.goto (-65), 3) := dk_167 255 191 (dk_at dksX9_settles_14 4 rfl rfl)
theorem dX9_settles_340 : decode cX9_settles 340 = .ok (.iinc 1 1, 3) := dk_132 1 1 (dk_at dksX9_settles_14 7 rfl rfl)
theorem dX9_settles_343 : decode cX9_settles 343 = .ok (.goto (-83), 3) := dk_167 255 173 (dk_at dksX9_settles_14 10 rfl rfl)
theorem dX9_settles_346 : decode cX9_settles 346 = .ok (.aload_n 0, 1) := dk_42 (dk_at dksX9_settles_14 13 rfl rfl)
theorem dX9_settles_347 : decode cX9_settles 347 = .ok (.iconst 0, 1) := dk_3 (dk_at dksX9_settles_14 14 rfl rfl)
theorem dX9_settles_348 : decode cX9_settles 348 = .ok (.putfield 76, 3) := dk_181 0 76 (dk_at dksX9_settles_14 15 rfl rfl)
theorem dX9_settles_351 : decode cX9_settles 351 = .ok (.aload_n 0, 1) := dk_42 (dk_at dksX9_settles_14 18 rfl rfl)
theorem dX9_settles_352 : decode cX9_settles 352 = .ok (.iconst 0, 1) := dk_3 (dk_at dksX9_settles_14 19 rfl rfl)
theorem dX9_settles_353 : decode cX9_settles 353 = .ok (.putfield 121, 3) := dk_181 0 121 (dk_at dksX9_settles_14 20 rfl rfl)
theorem dX9_settles_356 : decode cX9_settles 356 = .ok (.aload_n 0, 1) := dk_42 (dk_at dksX9_settles_14 23 rfl rfl)
theorem dX9_settles_357 : decode cX9_settles 357 = .ok (.iconst 0, 1) := dk_3 (dk_at dksX9_settles_15 0 rfl rfl)
theorem dX9_settles_358 : decode cX9_settles 358 = .ok (.putfield 124, 3) := dk_181 0 124 (dk_at dksX9_settles_15 1 rfl rfl)
theorem dX9_settles_361 : decode cX9_settles 361 = .ok (.aload_n 0, 1) := dk_42 (dk_at dksX9_settles_15 4 rfl rfl)
theorem dX9_settles_362 : decode cX9_settles 362 = .ok (.getfield 49, 3) := dk_180 0 49 (dk_at dksX9_settles_15 5 rfl rfl)
theorem dX9_settles_365 : decode cX9_settles 365 = .ok (.iconst 0, 1) := dk_3 (dk_at dksX9_settles_15 8 rfl rfl)
theorem dX9_settles_366 : decode cX9_settles 366 = .ok (.iconst 0, 1) := dk_3 (dk_at dksX9_settles_15 9 rfl rfl)
theorem dX9_settles_367 : decode cX9_settles 367 = .ok (.bastore, 1) := dk_84 (dk_at dksX9_settles_15 10 rfl rfl)
theorem dX9_settles_368 : decode cX9_settles 368 = .ok (.aload_n 0, 1) := dk_42 (dk_at dksX9_settles_15 11 rfl rfl)
theorem dX9_settles_369 : decode cX9_settles 369 = .ok (.getfield 49, 3) := dk_180 0 49 (dk_at dksX9_settles_15 12 rfl rfl)
theorem dX9_settles_372 : decode cX9_settles 372 = .ok (.iconst 1, 1) := dk_4 (dk_at dksX9_settles_15 15 rfl rfl)
theorem dX9_settles_373 : decode cX9_settles 373 = .ok (.iconst 0, 1) := dk_3 (dk_at dksX9_settles_15 16 rfl rfl)
theorem dX9_settles_374 : decode cX9_settles 374 = .ok (.bastore, 1) := dk_84 (dk_at dksX9_settles_15 17 rfl rfl)
theorem dX9_settles_375 : decode cX9_settles 375 = .ok (.return_, 1) := dk_177 (dk_at dksX9_settles_15 18 rfl rfl)
abbrev cX9_town : ByteArray := prog_13_method_17_code
def yX9_town : MethodName := ⟨RX9, "town", "(II)I"⟩
def dkwX9_town_3 : List UInt8 := [167, 0, 16, 42, 27, 182, 0, 135, 153, 0, 7, 4, 167, 0, 4, 3, 172]
abbrev dktX9_town_3 : List UInt8 := dkwX9_town_3 ++ []
def dkwX9_town_2 : List UInt8 := [180, 0, 40, 5, 27, 96, 46, 167, 0, 32, 28, 5, 160, 0, 14, 42, 180, 0, 40, 27, 184, 0, 131]
abbrev dktX9_town_2 : List UInt8 := dkwX9_town_2 ++ dktX9_town_3
def dkwX9_town_1 : List UInt8 := [28, 154, 0, 15, 42, 180, 0, 40, 16, 8, 27, 96, 46, 167, 0, 48, 28, 4, 160, 0, 14, 42]
abbrev dktX9_town_1 : List UInt8 := dkwX9_town_1 ++ dktX9_town_2
def dkwX9_town_0 : List UInt8 := [42, 3, 181, 0, 68, 42, 27, 182, 0, 127, 153, 0, 12, 28, 3, 6, 184, 0, 72, 154, 0, 5, 2, 172]
abbrev dktX9_town_0 : List UInt8 := dkwX9_town_0 ++ dktX9_town_1
theorem dksX9_town_0 : cX9_town.data.toList.drop 0 = dktX9_town_0 := by decide +kernel
theorem dksX9_town_1 : cX9_town.data.toList.drop 24 = dktX9_town_1 := dk_seg dksX9_town_0 24 rfl rfl
theorem dksX9_town_2 : cX9_town.data.toList.drop 46 = dktX9_town_2 := dk_seg dksX9_town_1 22 rfl rfl
theorem dksX9_town_3 : cX9_town.data.toList.drop 69 = dktX9_town_3 := dk_seg dksX9_town_2 23 rfl rfl
theorem dX9_town_0 : decode cX9_town 0 = .ok (.aload_n 0, 1) := dk_42 (dk_at dksX9_town_0 0 rfl rfl)
theorem dX9_town_1 : decode cX9_town 1 = .ok (.iconst 0, 1) := dk_3 (dk_at dksX9_town_0 1 rfl rfl)
theorem dX9_town_2 : decode cX9_town 2 = .ok (.putfield 68, 3) := dk_181 0 68 (dk_at dksX9_town_0 2 rfl rfl)
theorem dX9_town_5 : decode cX9_town 5 = .ok (.aload_n 0, 1) := dk_42 (dk_at dksX9_town_0 5 rfl rfl)
theorem dX9_town_6 : decode cX9_town 6 = .ok (.iload_n 1, 1) := dk_27 (dk_at dksX9_town_0 6 rfl rfl)
theorem dX9_town_7 : decode cX9_town 7 = .ok (.invokevirtual 127, 3) := dk_182 0 127 (dk_at dksX9_town_0 7 rfl rfl)
theorem dX9_town_10 : decode cX9_town 10 = .ok (.ifCond .eq 12, 3) := dk_153 0 12 (dk_at dksX9_town_0 10 rfl rfl)
theorem dX9_town_13 : decode cX9_town 13 = .ok (.iload_n 2, 1) := dk_28 (dk_at dksX9_town_0 13 rfl rfl)
theorem dX9_town_14 : decode cX9_town 14 = .ok (.iconst 0, 1) := dk_3 (dk_at dksX9_town_0 14 rfl rfl)
theorem dX9_town_15 : decode cX9_town 15 = .ok (.iconst 3, 1) := dk_6 (dk_at dksX9_town_0 15 rfl rfl)
theorem dX9_town_16 : decode cX9_town 16 = .ok (.invokestatic 72, 3) := dk_184 0 72 (dk_at dksX9_town_0 16 rfl rfl)
theorem dX9_town_19 : decode cX9_town 19 = .ok (.ifCond .ne 5, 3) := dk_154 0 5 (dk_at dksX9_town_0 19 rfl rfl)
theorem dX9_town_22 : decode cX9_town 22 = .ok (.iconst (-1), 1) := dk_2 (dk_at dksX9_town_0 22 rfl rfl)
theorem dX9_town_23 : decode cX9_town 23 = .ok (.ireturn, 1) := dk_172 (dk_at dksX9_town_0 23 rfl rfl)
theorem dX9_town_24 : decode cX9_town 24 = .ok (.iload_n 2, 1) := dk_28 (dk_at dksX9_town_1 0 rfl rfl)
theorem dX9_town_25 : decode cX9_town 25 = .ok (.ifCond .ne 15, 3) := dk_154 0 15 (dk_at dksX9_town_1 1 rfl rfl)
theorem dX9_town_28 : decode cX9_town 28 = .ok (.aload_n 0, 1) := dk_42 (dk_at dksX9_town_1 4 rfl rfl)
theorem dX9_town_29 : decode cX9_town 29 = .ok (.getfield 40, 3) := dk_180 0 40 (dk_at dksX9_town_1 5 rfl rfl)
theorem dX9_town_32 : decode cX9_town 32 = .ok (.bipush 8, 2) := dk_16 8 (dk_at dksX9_town_1 8 rfl rfl)
theorem dX9_town_34 : decode cX9_town 34 = .ok (.iload_n 1, 1) := dk_27 (dk_at dksX9_town_1 10 rfl rfl)
theorem dX9_town_35 : decode cX9_town 35 = .ok (.iadd, 1) := dk_96 (dk_at dksX9_town_1 11 rfl rfl)
theorem dX9_town_36 : decode cX9_town 36 = .ok (.iaload, 1) := dk_46 (dk_at dksX9_town_1 12 rfl rfl)
theorem dX9_town_37 : decode cX9_town 37 = .ok (.goto 48, 3) := dk_167 0 48 (dk_at dksX9_town_1 13 rfl rfl)
theorem dX9_town_40 : decode cX9_town 40 = .ok (.iload_n 2, 1) := dk_28 (dk_at dksX9_town_1 16 rfl rfl)
theorem dX9_town_41 : decode cX9_town 41 = .ok (.iconst 1, 1) := dk_4 (dk_at dksX9_town_1 17 rfl rfl)
theorem dX9_town_42 : decode cX9_town 42 = .ok (.if_icmp .ne 14, 3) := dk_160 0 14 (dk_at dksX9_town_1 18 rfl rfl)
theorem dX9_town_45 : decode cX9_town 45 = .ok (.aload_n 0, 1) := dk_42 (dk_at dksX9_town_1 21 rfl rfl)
theorem dX9_town_46 : decode cX9_town 46 = .ok (.getfield 40, 3) := dk_180 0 40 (dk_at dksX9_town_2 0 rfl rfl)
theorem dX9_town_49 : decode cX9_town 49 = .ok (.iconst 2, 1) := dk_5 (dk_at dksX9_town_2 3 rfl rfl)
theorem dX9_town_50 : decode cX9_town 50 = .ok (.iload_n 1, 1) := dk_27 (dk_at dksX9_town_2 4 rfl rfl)
theorem dX9_town_51 : decode cX9_town 51 = .ok (.iadd, 1) := dk_96 (dk_at dksX9_town_2 5 rfl rfl)
theorem dX9_town_52 : decode cX9_town 52 = .ok (.iaload, 1) := dk_46 (dk_at dksX9_town_2 6 rfl rfl)
theorem dX9_town_53 : decode cX9_town 53 = .ok (.goto 32, 3) := dk_167 0 32 (dk_at dksX9_town_2 7 rfl rfl)
theorem dX9_town_56 : decode cX9_town 56 = .ok (.iload_n 2, 1) := dk_28 (dk_at dksX9_town_2 10 rfl rfl)
theorem dX9_town_57 : decode cX9_town 57 = .ok (.iconst 2, 1) := dk_5 (dk_at dksX9_town_2 11 rfl rfl)
theorem dX9_town_58 : decode cX9_town 58 = .ok (.if_icmp .ne 14, 3) := dk_160 0 14 (dk_at dksX9_town_2 12 rfl rfl)
theorem dX9_town_61 : decode cX9_town 61 = .ok (.aload_n 0, 1) := dk_42 (dk_at dksX9_town_2 15 rfl rfl)
theorem dX9_town_62 : decode cX9_town 62 = .ok (.getfield 40, 3) := dk_180 0 40 (dk_at dksX9_town_2 16 rfl rfl)
theorem dX9_town_65 : decode cX9_town 65 = .ok (.iload_n 1, 1) := dk_27 (dk_at dksX9_town_2 19 rfl rfl)
theorem dX9_town_66 : decode cX9_town 66 = .ok (.invokestatic 131, 3) := dk_184 0 131 (dk_at dksX9_town_2 20 rfl rfl)
theorem dX9_town_69 : decode cX9_town 69 = .ok (.goto 16, 3) := dk_167 0 16 (dk_at dksX9_town_3 0 rfl rfl)
theorem dX9_town_72 : decode cX9_town 72 = .ok (.aload_n 0, 1) := dk_42 (dk_at dksX9_town_3 3 rfl rfl)
theorem dX9_town_73 : decode cX9_town 73 = .ok (.iload_n 1, 1) := dk_27 (dk_at dksX9_town_3 4 rfl rfl)
theorem dX9_town_74 : decode cX9_town 74 = .ok (.invokevirtual 135, 3) := dk_182 0 135 (dk_at dksX9_town_3 5 rfl rfl)
theorem dX9_town_77 : decode cX9_town 77 = .ok (.ifCond .eq 7, 3) := dk_153 0 7 (dk_at dksX9_town_3 8 rfl rfl)
theorem dX9_town_80 : decode cX9_town 80 = .ok (.iconst 1, 1) := dk_4 (dk_at dksX9_town_3 11 rfl rfl)
theorem dX9_town_81 : decode cX9_town 81 = .ok (.goto 4, 3) := dk_167 0 4 (dk_at dksX9_town_3 12 rfl rfl)
theorem dX9_town_84 : decode cX9_town 84 = .ok (.iconst 0, 1) := dk_3 (dk_at dksX9_town_3 15 rfl rfl)
theorem dX9_town_85 : decode cX9_town 85 = .ok (.ireturn, 1) := dk_172 (dk_at dksX9_town_3 16 rfl rfl)
abbrev cX9_isTown : ByteArray := prog_13_method_14_code
def yX9_isTown : MethodName := ⟨RX9, "isTown", "(I)Z"⟩
def dkwX9_isTown_0 : List UInt8 := [27, 3, 42, 180, 0, 13, 3, 46, 4, 100, 184, 0, 72, 172]
abbrev dktX9_isTown_0 : List UInt8 := dkwX9_isTown_0 ++ []
theorem dksX9_isTown_0 : cX9_isTown.data.toList.drop 0 = dktX9_isTown_0 := by decide +kernel
theorem dX9_isTown_0 : decode cX9_isTown 0 = .ok (.iload_n 1, 1) := dk_27 (dk_at dksX9_isTown_0 0 rfl rfl)
theorem dX9_isTown_1 : decode cX9_isTown 1 = .ok (.iconst 0, 1) := dk_3 (dk_at dksX9_isTown_0 1 rfl rfl)
theorem dX9_isTown_2 : decode cX9_isTown 2 = .ok (.aload_n 0, 1) := dk_42 (dk_at dksX9_isTown_0 2 rfl rfl)
theorem dX9_isTown_3 : decode cX9_isTown 3 = .ok (.getfield 13, 3) := dk_180 0 13 (dk_at dksX9_isTown_0 3 rfl rfl)
theorem dX9_isTown_6 : decode cX9_isTown 6 = .ok (.iconst 0, 1) := dk_3 (dk_at dksX9_isTown_0 6 rfl rfl)
theorem dX9_isTown_7 : decode cX9_isTown 7 = .ok (.iaload, 1) := dk_46 (dk_at dksX9_isTown_0 7 rfl rfl)
theorem dX9_isTown_8 : decode cX9_isTown 8 = .ok (.iconst 1, 1) := dk_4 (dk_at dksX9_isTown_0 8 rfl rfl)
theorem dX9_isTown_9 : decode cX9_isTown 9 = .ok (.isub, 1) := dk_100 (dk_at dksX9_isTown_0 9 rfl rfl)
theorem dX9_isTown_10 : decode cX9_isTown 10 = .ok (.invokestatic 72, 3) := dk_184 0 72 (dk_at dksX9_isTown_0 10 rfl rfl)
theorem dX9_isTown_13 : decode cX9_isTown 13 = .ok (.ireturn, 1) := dk_172 (dk_at dksX9_isTown_0 13 rfl rfl)
abbrev cX9_hangs : ByteArray := prog_13_method_15_code
def yX9_hangs : MethodName := ⟨RX9, "hangs", "([II)I"⟩
def dkwX9_hangs_0 : List UInt8 := [3, 61, 42, 5, 28, 96, 46, 27, 159, 0, 9, 132, 2, 1, 167, 255, 244, 28, 172]
abbrev dktX9_hangs_0 : List UInt8 := dkwX9_hangs_0 ++ []
theorem dksX9_hangs_0 : cX9_hangs.data.toList.drop 0 = dktX9_hangs_0 := by decide +kernel
theorem dX9_hangs_0 : decode cX9_hangs 0 = .ok (.iconst 0, 1) := dk_3 (dk_at dksX9_hangs_0 0 rfl rfl)
theorem dX9_hangs_1 : decode cX9_hangs 1 = .ok (.istore_n 2, 1) := dk_61 (dk_at dksX9_hangs_0 1 rfl rfl)
theorem dX9_hangs_2 : decode cX9_hangs 2 = .ok (.aload_n 0, 1) := dk_42 (dk_at dksX9_hangs_0 2 rfl rfl)
theorem dX9_hangs_3 : decode cX9_hangs 3 = .ok (.iconst 2, 1) := dk_5 (dk_at dksX9_hangs_0 3 rfl rfl)
theorem dX9_hangs_4 : decode cX9_hangs 4 = .ok (.iload_n 2, 1) := dk_28 (dk_at dksX9_hangs_0 4 rfl rfl)
theorem dX9_hangs_5 : decode cX9_hangs 5 = .ok (.iadd, 1) := dk_96 (dk_at dksX9_hangs_0 5 rfl rfl)
theorem dX9_hangs_6 : decode cX9_hangs 6 = .ok (.iaload, 1) := dk_46 (dk_at dksX9_hangs_0 6 rfl rfl)
theorem dX9_hangs_7 : decode cX9_hangs 7 = .ok (.iload_n 1, 1) := dk_27 (dk_at dksX9_hangs_0 7 rfl rfl)
theorem dX9_hangs_8 : decode cX9_hangs 8 = .ok (.if_icmp .eq 9, 3) := dk_159 0 9 (dk_at dksX9_hangs_0 8 rfl rfl)
theorem dX9_hangs_11 : decode cX9_hangs 11 = .ok (.iinc 2 1, 3) := dk_132 2 1 (dk_at dksX9_hangs_0 11 rfl rfl)
theorem dX9_hangs_14 : decode cX9_hangs 14 = .ok (.goto (-12), 3) := dk_167 255 244 (dk_at dksX9_hangs_0 14 rfl rfl)
theorem dX9_hangs_17 : decode cX9_hangs 17 = .ok (.iload_n 2, 1) := dk_28 (dk_at dksX9_hangs_0 17 rfl rfl)
theorem dX9_hangs_18 : decode cX9_hangs 18 = .ok (.ireturn, 1) := dk_172 (dk_at dksX9_hangs_0 18 rfl rfl)
abbrev cX9_isDumb : ByteArray := prog_13_method_16_code
def yX9_isDumb : MethodName := ⟨RX9, "isDumb", "(I)Z"⟩
def dkwX9_isDumb_3 : List UInt8 := [167, 255, 190, 28, 172]
abbrev dktX9_isDumb_3 : List UInt8 := dkwX9_isDumb_3 ++ []
def dkwX9_isDumb_2 : List UInt8 := [180, 0, 22, 42, 180, 0, 40, 5, 27, 96, 46, 46, 160, 0, 7, 4, 167, 0, 4, 3, 61, 132, 3, 1]
abbrev dktX9_isDumb_2 : List UInt8 := dkwX9_isDumb_2 ++ dktX9_isDumb_3
def dkwX9_isDumb_1 : List UInt8 := [27, 104, 29, 96, 46, 158, 0, 36, 42, 180, 0, 22, 42, 180, 0, 40, 5, 29, 96, 46, 46, 42]
abbrev dktX9_isDumb_1 : List UInt8 := dkwX9_isDumb_1 ++ dktX9_isDumb_2
def dkwX9_isDumb_0 : List UInt8 := [3, 61, 3, 62, 29, 42, 180, 0, 13, 3, 46, 162, 0, 62, 28, 154, 0, 46, 42, 180, 0, 25, 16, 6]
abbrev dktX9_isDumb_0 : List UInt8 := dkwX9_isDumb_0 ++ dktX9_isDumb_1
theorem dksX9_isDumb_0 : cX9_isDumb.data.toList.drop 0 = dktX9_isDumb_0 := by decide +kernel
theorem dksX9_isDumb_1 : cX9_isDumb.data.toList.drop 24 = dktX9_isDumb_1 := dk_seg dksX9_isDumb_0 24 rfl rfl
theorem dksX9_isDumb_2 : cX9_isDumb.data.toList.drop 46 = dktX9_isDumb_2 := dk_seg dksX9_isDumb_1 22 rfl rfl
theorem dksX9_isDumb_3 : cX9_isDumb.data.toList.drop 70 = dktX9_isDumb_3 := dk_seg dksX9_isDumb_2 24 rfl rfl
theorem dX9_isDumb_0 : decode cX9_isDumb 0 = .ok (.iconst 0, 1) := dk_3 (dk_at dksX9_isDumb_0 0 rfl rfl)
theorem dX9_isDumb_1 : decode cX9_isDumb 1 = .ok (.istore_n 2, 1) := dk_61 (dk_at dksX9_isDumb_0 1 rfl rfl)
theorem dX9_isDumb_2 : decode cX9_isDumb 2 = .ok (.iconst 0, 1) := dk_3 (dk_at dksX9_isDumb_0 2 rfl rfl)
theorem dX9_isDumb_3 : decode cX9_isDumb 3 = .ok (.istore_n 3, 1) := dk_62 (dk_at dksX9_isDumb_0 3 rfl rfl)
theorem dX9_isDumb_4 : decode cX9_isDumb 4 = .ok (.iload_n 3, 1) := dk_29 (dk_at dksX9_isDumb_0 4 rfl rfl)
theorem dX9_isDumb_5 : decode cX9_isDumb 5 = .ok (.aload_n 0, 1) := dk_42 (dk_at dksX9_isDumb_0 5 rfl rfl)
theorem dX9_isDumb_6 : decode cX9_isDumb 6 = .ok (.getfield 13, 3) := dk_180 0 13 (dk_at dksX9_isDumb_0 6 rfl rfl)
theorem dX9_isDumb_9 : decode cX9_isDumb 9 = .ok (.iconst 0, 1) := dk_3 (dk_at dksX9_isDumb_0 9 rfl rfl)
theorem dX9_isDumb_10 : decode cX9_isDumb 10 = .ok (.iaload, 1) := dk_46 (dk_at dksX9_isDumb_0 10 rfl rfl)
theorem dX9_isDumb_11 : decode cX9_isDumb 11 = .ok (.if_icmp .ge 62, 3) := dk_162 0 62 (dk_at dksX9_isDumb_0 11 rfl rfl)
theorem dX9_isDumb_14 : decode cX9_isDumb 14 = .ok (.iload_n 2, 1) := dk_28 (dk_at dksX9_isDumb_0 14 rfl rfl)
theorem dX9_isDumb_15 : decode cX9_isDumb 15 = .ok (.ifCond .ne 46, 3) := dk_154 0 46 (dk_at dksX9_isDumb_0 15 rfl rfl)
theorem dX9_isDumb_18 : decode cX9_isDumb 18 = .ok (.aload_n 0, 1) := dk_42 (dk_at dksX9_isDumb_0 18 rfl rfl)
theorem dX9_isDumb_19 : decode cX9_isDumb 19 = .ok (.getfield 25, 3) := dk_180 0 25 (dk_at dksX9_isDumb_0 19 rfl rfl)
theorem dX9_isDumb_22 : decode cX9_isDumb 22 = .ok (.bipush 6, 2) := dk_16 6 (dk_at dksX9_isDumb_0 22 rfl rfl)
theorem dX9_isDumb_24 : decode cX9_isDumb 24 = .ok (.iload_n 1, 1) := dk_27 (dk_at dksX9_isDumb_1 0 rfl rfl)
theorem dX9_isDumb_25 : decode cX9_isDumb 25 = .ok (.imul, 1) := dk_104 (dk_at dksX9_isDumb_1 1 rfl rfl)
theorem dX9_isDumb_26 : decode cX9_isDumb 26 = .ok (.iload_n 3, 1) := dk_29 (dk_at dksX9_isDumb_1 2 rfl rfl)
theorem dX9_isDumb_27 : decode cX9_isDumb 27 = .ok (.iadd, 1) := dk_96 (dk_at dksX9_isDumb_1 3 rfl rfl)
theorem dX9_isDumb_28 : decode cX9_isDumb 28 = .ok (.iaload, 1) := dk_46 (dk_at dksX9_isDumb_1 4 rfl rfl)
theorem dX9_isDumb_29 : decode cX9_isDumb 29 = .ok (.ifCond .le 36, 3) := dk_158 0 36 (dk_at dksX9_isDumb_1 5 rfl rfl)
theorem dX9_isDumb_32 : decode cX9_isDumb 32 = .ok (.aload_n 0, 1) := dk_42 (dk_at dksX9_isDumb_1 8 rfl rfl)
theorem dX9_isDumb_33 : decode cX9_isDumb 33 = .ok (.getfield 22, 3) := dk_180 0 22 (dk_at dksX9_isDumb_1 9 rfl rfl)
theorem dX9_isDumb_36 : decode cX9_isDumb 36 = .ok (.aload_n 0, 1) := dk_42 (dk_at dksX9_isDumb_1 12 rfl rfl)
theorem dX9_isDumb_37 : decode cX9_isDumb 37 = .ok (.getfield 40, 3) := dk_180 0 40 (dk_at dksX9_isDumb_1 13 rfl rfl)
theorem dX9_isDumb_40 : decode cX9_isDumb 40 = .ok (.iconst 2, 1) := dk_5 (dk_at dksX9_isDumb_1 16 rfl rfl)
theorem dX9_isDumb_41 : decode cX9_isDumb 41 = .ok (.iload_n 3, 1) := dk_29 (dk_at dksX9_isDumb_1 17 rfl rfl)
theorem dX9_isDumb_42 : decode cX9_isDumb 42 = .ok (.iadd, 1) := dk_96 (dk_at dksX9_isDumb_1 18 rfl rfl)
theorem dX9_isDumb_43 : decode cX9_isDumb 43 = .ok (.iaload, 1) := dk_46 (dk_at dksX9_isDumb_1 19 rfl rfl)
theorem dX9_isDumb_44 : decode cX9_isDumb 44 = .ok (.iaload, 1) := dk_46 (dk_at dksX9_isDumb_1 20 rfl rfl)
theorem dX9_isDumb_45 : decode cX9_isDumb 45 = .ok (.aload_n 0, 1) := dk_42 (dk_at dksX9_isDumb_1 21 rfl rfl)
theorem dX9_isDumb_46 : decode cX9_isDumb 46 = .ok (.getfield 22, 3) := dk_180 0 22 (dk_at dksX9_isDumb_2 0 rfl rfl)
theorem dX9_isDumb_49 : decode cX9_isDumb 49 = .ok (.aload_n 0, 1) := dk_42 (dk_at dksX9_isDumb_2 3 rfl rfl)
theorem dX9_isDumb_50 : decode cX9_isDumb 50 = .ok (.getfield 40, 3) := dk_180 0 40 (dk_at dksX9_isDumb_2 4 rfl rfl)
theorem dX9_isDumb_53 : decode cX9_isDumb 53 = .ok (.iconst 2, 1) := dk_5 (dk_at dksX9_isDumb_2 7 rfl rfl)
theorem dX9_isDumb_54 : decode cX9_isDumb 54 = .ok (.iload_n 1, 1) := dk_27 (dk_at dksX9_isDumb_2 8 rfl rfl)
theorem dX9_isDumb_55 : decode cX9_isDumb 55 = .ok (.iadd, 1) := dk_96 (dk_at dksX9_isDumb_2 9 rfl rfl)
theorem dX9_isDumb_56 : decode cX9_isDumb 56 = .ok (.iaload, 1) := dk_46 (dk_at dksX9_isDumb_2 10 rfl rfl)
theorem dX9_isDumb_57 : decode cX9_isDumb 57 = .ok (.iaload, 1) := dk_46 (dk_at dksX9_isDumb_2 11 rfl rfl)
theorem dX9_isDumb_58 : decode cX9_isDumb 58 = .ok (.if_icmp .ne 7, 3) := dk_160 0 7 (dk_at dksX9_isDumb_2 12 rfl rfl)
theorem dX9_isDumb_61 : decode cX9_isDumb 61 = .ok (.iconst 1, 1) := dk_4 (dk_at dksX9_isDumb_2 15 rfl rfl)
theorem dX9_isDumb_62 : decode cX9_isDumb 62 = .ok (.goto 4, 3) := dk_167 0 4 (dk_at dksX9_isDumb_2 16 rfl rfl)
theorem dX9_isDumb_65 : decode cX9_isDumb 65 = .ok (.iconst 0, 1) := dk_3 (dk_at dksX9_isDumb_2 19 rfl rfl)
theorem dX9_isDumb_66 : decode cX9_isDumb 66 = .ok (.istore_n 2, 1) := dk_61 (dk_at dksX9_isDumb_2 20 rfl rfl)
theorem dX9_isDumb_67 : decode cX9_isDumb 67 = .ok (.iinc 3 1, 3) := dk_132 3 1 (dk_at dksX9_isDumb_2 21 rfl rfl)
theorem dX9_isDumb_70 : decode cX9_isDumb 70 = .ok (.goto (-66), 3) := dk_167 255 190 (dk_at dksX9_isDumb_3 0 rfl rfl)
theorem dX9_isDumb_73 : decode cX9_isDumb 73 = .ok (.iload_n 2, 1) := dk_28 (dk_at dksX9_isDumb_3 3 rfl rfl)
theorem dX9_isDumb_74 : decode cX9_isDumb 74 = .ok (.ireturn, 1) := dk_172 (dk_at dksX9_isDumb_3 4 rfl rfl)
abbrev cX9_bell : ByteArray := prog_13_method_19_code
def yX9_bell : MethodName := ⟨RX9, "bell", "(II)I"⟩
def dkwX9_bell_3 : List UInt8 := [172]
abbrev dktX9_bell_3 : List UInt8 := dkwX9_bell_3 ++ []
def dkwX9_bell_2 : List UInt8 := [167, 0, 24, 28, 5, 160, 0, 14, 42, 180, 0, 40, 27, 184, 0, 131, 167, 0, 8, 42, 27, 182, 0, 138]
abbrev dktX9_bell_2 : List UInt8 := dkwX9_bell_2 ++ dktX9_bell_3
def dkwX9_bell_1 : List UInt8 := [28, 154, 0, 12, 42, 180, 0, 19, 27, 46, 167, 0, 38, 28, 4, 160, 0, 12, 42, 180, 0, 22, 27, 46]
abbrev dktX9_bell_1 : List UInt8 := dkwX9_bell_1 ++ dktX9_bell_2
def dkwX9_bell_0 : List UInt8 := [42, 3, 181, 0, 68, 42, 27, 182, 0, 127, 153, 0, 12, 28, 3, 6, 184, 0, 72, 154, 0, 5, 2, 172]
abbrev dktX9_bell_0 : List UInt8 := dkwX9_bell_0 ++ dktX9_bell_1
theorem dksX9_bell_0 : cX9_bell.data.toList.drop 0 = dktX9_bell_0 := by decide +kernel
theorem dksX9_bell_1 : cX9_bell.data.toList.drop 24 = dktX9_bell_1 := dk_seg dksX9_bell_0 24 rfl rfl
theorem dksX9_bell_2 : cX9_bell.data.toList.drop 48 = dktX9_bell_2 := dk_seg dksX9_bell_1 24 rfl rfl
theorem dksX9_bell_3 : cX9_bell.data.toList.drop 72 = dktX9_bell_3 := dk_seg dksX9_bell_2 24 rfl rfl
theorem dX9_bell_0 : decode cX9_bell 0 = .ok (.aload_n 0, 1) := dk_42 (dk_at dksX9_bell_0 0 rfl rfl)
theorem dX9_bell_1 : decode cX9_bell 1 = .ok (.iconst 0, 1) := dk_3 (dk_at dksX9_bell_0 1 rfl rfl)
theorem dX9_bell_2 : decode cX9_bell 2 = .ok (.putfield 68, 3) := dk_181 0 68 (dk_at dksX9_bell_0 2 rfl rfl)
theorem dX9_bell_5 : decode cX9_bell 5 = .ok (.aload_n 0, 1) := dk_42 (dk_at dksX9_bell_0 5 rfl rfl)
theorem dX9_bell_6 : decode cX9_bell 6 = .ok (.iload_n 1, 1) := dk_27 (dk_at dksX9_bell_0 6 rfl rfl)
theorem dX9_bell_7 : decode cX9_bell 7 = .ok (.invokevirtual 127, 3) := dk_182 0 127 (dk_at dksX9_bell_0 7 rfl rfl)
theorem dX9_bell_10 : decode cX9_bell 10 = .ok (.ifCond .eq 12, 3) := dk_153 0 12 (dk_at dksX9_bell_0 10 rfl rfl)
theorem dX9_bell_13 : decode cX9_bell 13 = .ok (.iload_n 2, 1) := dk_28 (dk_at dksX9_bell_0 13 rfl rfl)
theorem dX9_bell_14 : decode cX9_bell 14 = .ok (.iconst 0, 1) := dk_3 (dk_at dksX9_bell_0 14 rfl rfl)
theorem dX9_bell_15 : decode cX9_bell 15 = .ok (.iconst 3, 1) := dk_6 (dk_at dksX9_bell_0 15 rfl rfl)
theorem dX9_bell_16 : decode cX9_bell 16 = .ok (.invokestatic 72, 3) := dk_184 0 72 (dk_at dksX9_bell_0 16 rfl rfl)
theorem dX9_bell_19 : decode cX9_bell 19 = .ok (.ifCond .ne 5, 3) := dk_154 0 5 (dk_at dksX9_bell_0 19 rfl rfl)
theorem dX9_bell_22 : decode cX9_bell 22 = .ok (.iconst (-1), 1) := dk_2 (dk_at dksX9_bell_0 22 rfl rfl)
theorem dX9_bell_23 : decode cX9_bell 23 = .ok (.ireturn, 1) := dk_172 (dk_at dksX9_bell_0 23 rfl rfl)
theorem dX9_bell_24 : decode cX9_bell 24 = .ok (.iload_n 2, 1) := dk_28 (dk_at dksX9_bell_1 0 rfl rfl)
theorem dX9_bell_25 : decode cX9_bell 25 = .ok (.ifCond .ne 12, 3) := dk_154 0 12 (dk_at dksX9_bell_1 1 rfl rfl)
theorem dX9_bell_28 : decode cX9_bell 28 = .ok (.aload_n 0, 1) := dk_42 (dk_at dksX9_bell_1 4 rfl rfl)
theorem dX9_bell_29 : decode cX9_bell 29 = .ok (.getfield 19, 3) := dk_180 0 19 (dk_at dksX9_bell_1 5 rfl rfl)
theorem dX9_bell_32 : decode cX9_bell 32 = .ok (.iload_n 1, 1) := dk_27 (dk_at dksX9_bell_1 8 rfl rfl)
theorem dX9_bell_33 : decode cX9_bell 33 = .ok (.iaload, 1) := dk_46 (dk_at dksX9_bell_1 9 rfl rfl)
theorem dX9_bell_34 : decode cX9_bell 34 = .ok (.goto 38, 3) := dk_167 0 38 (dk_at dksX9_bell_1 10 rfl rfl)
theorem dX9_bell_37 : decode cX9_bell 37 = .ok (.iload_n 2, 1) := dk_28 (dk_at dksX9_bell_1 13 rfl rfl)
theorem dX9_bell_38 : decode cX9_bell 38 = .ok (.iconst 1, 1) := dk_4 (dk_at dksX9_bell_1 14 rfl rfl)
theorem dX9_bell_39 : decode cX9_bell 39 = .ok (.if_icmp .ne 12, 3) := dk_160 0 12 (dk_at dksX9_bell_1 15 rfl rfl)
theorem dX9_bell_42 : decode cX9_bell 42 = .ok (.aload_n 0, 1) := dk_42 (dk_at dksX9_bell_1 18 rfl rfl)
theorem dX9_bell_43 : decode cX9_bell 43 = .ok (.getfield 22, 3) := dk_180 0 22 (dk_at dksX9_bell_1 19 rfl rfl)
theorem dX9_bell_46 : decode cX9_bell 46 = .ok (.iload_n 1, 1) := dk_27 (dk_at dksX9_bell_1 22 rfl rfl)
theorem dX9_bell_47 : decode cX9_bell 47 = .ok (.iaload, 1) := dk_46 (dk_at dksX9_bell_1 23 rfl rfl)
theorem dX9_bell_48 : decode cX9_bell 48 = .ok (.goto 24, 3) := dk_167 0 24 (dk_at dksX9_bell_2 0 rfl rfl)
theorem dX9_bell_51 : decode cX9_bell 51 = .ok (.iload_n 2, 1) := dk_28 (dk_at dksX9_bell_2 3 rfl rfl)
theorem dX9_bell_52 : decode cX9_bell 52 = .ok (.iconst 2, 1) := dk_5 (dk_at dksX9_bell_2 4 rfl rfl)
theorem dX9_bell_53 : decode cX9_bell 53 = .ok (.if_icmp .ne 14, 3) := dk_160 0 14 (dk_at dksX9_bell_2 5 rfl rfl)
theorem dX9_bell_56 : decode cX9_bell 56 = .ok (.aload_n 0, 1) := dk_42 (dk_at dksX9_bell_2 8 rfl rfl)
theorem dX9_bell_57 : decode cX9_bell 57 = .ok (.getfield 40, 3) := dk_180 0 40 (dk_at dksX9_bell_2 9 rfl rfl)
theorem dX9_bell_60 : decode cX9_bell 60 = .ok (.iload_n 1, 1) := dk_27 (dk_at dksX9_bell_2 12 rfl rfl)
theorem dX9_bell_61 : decode cX9_bell 61 = .ok (.invokestatic 131, 3) := dk_184 0 131 (dk_at dksX9_bell_2 13 rfl rfl)
theorem dX9_bell_64 : decode cX9_bell 64 = .ok (.goto 8, 3) := dk_167 0 8 (dk_at dksX9_bell_2 16 rfl rfl)
theorem dX9_bell_67 : decode cX9_bell 67 = .ok (.aload_n 0, 1) := dk_42 (dk_at dksX9_bell_2 19 rfl rfl)
theorem dX9_bell_68 : decode cX9_bell 68 = .ok (.iload_n 1, 1) := dk_27 (dk_at dksX9_bell_2 20 rfl rfl)
theorem dX9_bell_69 : decode cX9_bell 69 = .ok (.invokevirtual 138, 3) := dk_182 0 138 (dk_at dksX9_bell_2 21 rfl rfl)
theorem dX9_bell_72 : decode cX9_bell 72 = .ok (.ireturn, 1) := dk_172 (dk_at dksX9_bell_3 0 rfl rfl)
abbrev cX9_fits : ByteArray := prog_13_method_18_code
def yX9_fits : MethodName := ⟨RX9, "fits", "(I)I"⟩
def dkwX9_fits_2 : List UInt8 := [28, 172]
abbrev dktX9_fits_2 : List UInt8 := dkwX9_fits_2 ++ []
def dkwX9_fits_1 : List UInt8 := [42, 180, 0, 19, 27, 46, 161, 0, 9, 4, 29, 120, 167, 0, 4, 3, 128, 61, 132, 3, 1, 167, 255, 215]
abbrev dktX9_fits_1 : List UInt8 := dkwX9_fits_1 ++ dktX9_fits_2
def dkwX9_fits_0 : List UInt8 := [3, 61, 3, 62, 29, 42, 180, 0, 13, 3, 46, 162, 0, 37, 28, 42, 180, 0, 40, 16, 8, 29, 96, 46]
abbrev dktX9_fits_0 : List UInt8 := dkwX9_fits_0 ++ dktX9_fits_1
theorem dksX9_fits_0 : cX9_fits.data.toList.drop 0 = dktX9_fits_0 := by decide +kernel
theorem dksX9_fits_1 : cX9_fits.data.toList.drop 24 = dktX9_fits_1 := dk_seg dksX9_fits_0 24 rfl rfl
theorem dksX9_fits_2 : cX9_fits.data.toList.drop 48 = dktX9_fits_2 := dk_seg dksX9_fits_1 24 rfl rfl
theorem dX9_fits_0 : decode cX9_fits 0 = .ok (.iconst 0, 1) := dk_3 (dk_at dksX9_fits_0 0 rfl rfl)
theorem dX9_fits_1 : decode cX9_fits 1 = .ok (.istore_n 2, 1) := dk_61 (dk_at dksX9_fits_0 1 rfl rfl)
theorem dX9_fits_2 : decode cX9_fits 2 = .ok (.iconst 0, 1) := dk_3 (dk_at dksX9_fits_0 2 rfl rfl)
theorem dX9_fits_3 : decode cX9_fits 3 = .ok (.istore_n 3, 1) := dk_62 (dk_at dksX9_fits_0 3 rfl rfl)
theorem dX9_fits_4 : decode cX9_fits 4 = .ok (.iload_n 3, 1) := dk_29 (dk_at dksX9_fits_0 4 rfl rfl)
theorem dX9_fits_5 : decode cX9_fits 5 = .ok (.aload_n 0, 1) := dk_42 (dk_at dksX9_fits_0 5 rfl rfl)
theorem dX9_fits_6 : decode cX9_fits 6 = .ok (.getfield 13, 3) := dk_180 0 13 (dk_at dksX9_fits_0 6 rfl rfl)
theorem dX9_fits_9 : decode cX9_fits 9 = .ok (.iconst 0, 1) := dk_3 (dk_at dksX9_fits_0 9 rfl rfl)
theorem dX9_fits_10 : decode cX9_fits 10 = .ok (.iaload, 1) := dk_46 (dk_at dksX9_fits_0 10 rfl rfl)
theorem dX9_fits_11 : decode cX9_fits 11 = .ok (.if_icmp .ge 37, 3) := dk_162 0 37 (dk_at dksX9_fits_0 11 rfl rfl)
theorem dX9_fits_14 : decode cX9_fits 14 = .ok (.iload_n 2, 1) := dk_28 (dk_at dksX9_fits_0 14 rfl rfl)
theorem dX9_fits_15 : decode cX9_fits 15 = .ok (.aload_n 0, 1) := dk_42 (dk_at dksX9_fits_0 15 rfl rfl)
theorem dX9_fits_16 : decode cX9_fits 16 = .ok (.getfield 40, 3) := dk_180 0 40 (dk_at dksX9_fits_0 16 rfl rfl)
theorem dX9_fits_19 : decode cX9_fits 19 = .ok (.bipush 8, 2) := dk_16 8 (dk_at dksX9_fits_0 19 rfl rfl)
theorem dX9_fits_21 : decode cX9_fits 21 = .ok (.iload_n 3, 1) := dk_29 (dk_at dksX9_fits_0 21 rfl rfl)
theorem dX9_fits_22 : decode cX9_fits 22 = .ok (.iadd, 1) := dk_96 (dk_at dksX9_fits_0 22 rfl rfl)
theorem dX9_fits_23 : decode cX9_fits 23 = .ok (.iaload, 1) := dk_46 (dk_at dksX9_fits_0 23 rfl rfl)
theorem dX9_fits_24 : decode cX9_fits 24 = .ok (.aload_n 0, 1) := dk_42 (dk_at dksX9_fits_1 0 rfl rfl)
theorem dX9_fits_25 : decode cX9_fits 25 = .ok (.getfield 19, 3) := dk_180 0 19 (dk_at dksX9_fits_1 1 rfl rfl)
theorem dX9_fits_28 : decode cX9_fits 28 = .ok (.iload_n 1, 1) := dk_27 (dk_at dksX9_fits_1 4 rfl rfl)
theorem dX9_fits_29 : decode cX9_fits 29 = .ok (.iaload, 1) := dk_46 (dk_at dksX9_fits_1 5 rfl rfl)
theorem dX9_fits_30 : decode cX9_fits 30 = .ok (.if_icmp .lt 9, 3) := dk_161 0 9 (dk_at dksX9_fits_1 6 rfl rfl)
theorem dX9_fits_33 : decode cX9_fits 33 = .ok (.iconst 1, 1) := dk_4 (dk_at dksX9_fits_1 9 rfl rfl)
theorem dX9_fits_34 : decode cX9_fits 34 = .ok (.iload_n 3, 1) := dk_29 (dk_at dksX9_fits_1 10 rfl rfl)
theorem dX9_fits_35 : decode cX9_fits 35 = .ok (.ishl, 1) := dk_120 (dk_at dksX9_fits_1 11 rfl rfl)
theorem dX9_fits_36 : decode cX9_fits 36 = .ok (.goto 4, 3) := dk_167 0 4 (dk_at dksX9_fits_1 12 rfl rfl)
theorem dX9_fits_39 : decode cX9_fits 39 = .ok (.iconst 0, 1) := dk_3 (dk_at dksX9_fits_1 15 rfl rfl)
theorem dX9_fits_40 : decode cX9_fits 40 = .ok (.ior, 1) := dk_128 (dk_at dksX9_fits_1 16 rfl rfl)
theorem dX9_fits_41 : decode cX9_fits 41 = .ok (.istore_n 2, 1) := dk_61 (dk_at dksX9_fits_1 17 rfl rfl)
theorem dX9_fits_42 : decode cX9_fits 42 = .ok (.iinc 3 1, 3) := dk_132 3 1 (dk_at dksX9_fits_1 18 rfl rfl)
theorem dX9_fits_45 : decode cX9_fits 45 = .ok (.goto (-41), 3) := dk_167 255 215 (dk_at dksX9_fits_1 21 rfl rfl)
theorem dX9_fits_48 : decode cX9_fits 48 = .ok (.iload_n 2, 1) := dk_28 (dk_at dksX9_fits_2 0 rfl rfl)
theorem dX9_fits_49 : decode cX9_fits 49 = .ok (.ireturn, 1) := dk_172 (dk_at dksX9_fits_2 1 rfl rfl)
abbrev cX9_far : ByteArray := prog_13_method_20_code
def yX9_far : MethodName := ⟨RX9, "far", "(II)I"⟩
def dkwX9_far_2 : List UInt8 := [16, 6, 27, 104, 28, 96, 46, 172]
abbrev dktX9_far_2 : List UInt8 := dkwX9_far_2 ++ []
def dkwX9_far_1 : List UInt8 := [180, 0, 37, 16, 6, 27, 104, 28, 96, 46, 18, 120, 161, 0, 8, 16, 247, 167, 0, 14, 42, 180, 0, 37]
abbrev dktX9_far_1 : List UInt8 := dkwX9_far_1 ++ dktX9_far_2
def dkwX9_far_0 : List UInt8 := [42, 3, 181, 0, 68, 42, 27, 182, 0, 127, 153, 0, 11, 42, 28, 182, 0, 127, 154, 0, 5, 2, 172, 42]
abbrev dktX9_far_0 : List UInt8 := dkwX9_far_0 ++ dktX9_far_1
theorem dksX9_far_0 : cX9_far.data.toList.drop 0 = dktX9_far_0 := by decide +kernel
theorem dksX9_far_1 : cX9_far.data.toList.drop 24 = dktX9_far_1 := dk_seg dksX9_far_0 24 rfl rfl
theorem dksX9_far_2 : cX9_far.data.toList.drop 48 = dktX9_far_2 := dk_seg dksX9_far_1 24 rfl rfl
theorem dX9_far_0 : decode cX9_far 0 = .ok (.aload_n 0, 1) := dk_42 (dk_at dksX9_far_0 0 rfl rfl)
theorem dX9_far_1 : decode cX9_far 1 = .ok (.iconst 0, 1) := dk_3 (dk_at dksX9_far_0 1 rfl rfl)
theorem dX9_far_2 : decode cX9_far 2 = .ok (.putfield 68, 3) := dk_181 0 68 (dk_at dksX9_far_0 2 rfl rfl)
theorem dX9_far_5 : decode cX9_far 5 = .ok (.aload_n 0, 1) := dk_42 (dk_at dksX9_far_0 5 rfl rfl)
theorem dX9_far_6 : decode cX9_far 6 = .ok (.iload_n 1, 1) := dk_27 (dk_at dksX9_far_0 6 rfl rfl)
theorem dX9_far_7 : decode cX9_far 7 = .ok (.invokevirtual 127, 3) := dk_182 0 127 (dk_at dksX9_far_0 7 rfl rfl)
theorem dX9_far_10 : decode cX9_far 10 = .ok (.ifCond .eq 11, 3) := dk_153 0 11 (dk_at dksX9_far_0 10 rfl rfl)
theorem dX9_far_13 : decode cX9_far 13 = .ok (.aload_n 0, 1) := dk_42 (dk_at dksX9_far_0 13 rfl rfl)
theorem dX9_far_14 : decode cX9_far 14 = .ok (.iload_n 2, 1) := dk_28 (dk_at dksX9_far_0 14 rfl rfl)
theorem dX9_far_15 : decode cX9_far 15 = .ok (.invokevirtual 127, 3) := dk_182 0 127 (dk_at dksX9_far_0 15 rfl rfl)
theorem dX9_far_18 : decode cX9_far 18 = .ok (.ifCond .ne 5, 3) := dk_154 0 5 (dk_at dksX9_far_0 18 rfl rfl)
theorem dX9_far_21 : decode cX9_far 21 = .ok (.iconst (-1), 1) := dk_2 (dk_at dksX9_far_0 21 rfl rfl)
theorem dX9_far_22 : decode cX9_far 22 = .ok (.ireturn, 1) := dk_172 (dk_at dksX9_far_0 22 rfl rfl)
theorem dX9_far_23 : decode cX9_far 23 = .ok (.aload_n 0, 1) := dk_42 (dk_at dksX9_far_0 23 rfl rfl)
theorem dX9_far_24 : decode cX9_far 24 = .ok (.getfield 37, 3) := dk_180 0 37 (dk_at dksX9_far_1 0 rfl rfl)
theorem dX9_far_27 : decode cX9_far 27 = .ok (.bipush 6, 2) := dk_16 6 (dk_at dksX9_far_1 3 rfl rfl)
theorem dX9_far_29 : decode cX9_far 29 = .ok (.iload_n 1, 1) := dk_27 (dk_at dksX9_far_1 5 rfl rfl)
theorem dX9_far_30 : decode cX9_far 30 = .ok (.imul, 1) := dk_104 (dk_at dksX9_far_1 6 rfl rfl)
theorem dX9_far_31 : decode cX9_far 31 = .ok (.iload_n 2, 1) := dk_28 (dk_at dksX9_far_1 7 rfl rfl)
theorem dX9_far_32 : decode cX9_far 32 = .ok (.iadd, 1) := dk_96 (dk_at dksX9_far_1 8 rfl rfl)
theorem dX9_far_33 : decode cX9_far 33 = .ok (.iaload, 1) := dk_46 (dk_at dksX9_far_1 9 rfl rfl)
theorem dX9_far_34 : decode cX9_far 34 = .ok (.ldc 120, 2) := dk_18 120 (dk_at dksX9_far_1 10 rfl rfl)
theorem dX9_far_36 : decode cX9_far 36 = .ok (.if_icmp .lt 8, 3) := dk_161 0 8 (dk_at dksX9_far_1 12 rfl rfl)
theorem dX9_far_39 : decode cX9_far 39 = .ok (.bipush (-9), 2) := dk_16 247 (dk_at dksX9_far_1 15 rfl rfl)
theorem dX9_far_41 : decode cX9_far 41 = .ok (.goto 14, 3) := dk_167 0 14 (dk_at dksX9_far_1 17 rfl rfl)
theorem dX9_far_44 : decode cX9_far 44 = .ok (.aload_n 0, 1) := dk_42 (dk_at dksX9_far_1 20 rfl rfl)
theorem dX9_far_45 : decode cX9_far 45 = .ok (.getfield 37, 3) := dk_180 0 37 (dk_at dksX9_far_1 21 rfl rfl)
theorem dX9_far_48 : decode cX9_far 48 = .ok (.bipush 6, 2) := dk_16 6 (dk_at dksX9_far_2 0 rfl rfl)
theorem dX9_far_50 : decode cX9_far 50 = .ok (.iload_n 1, 1) := dk_27 (dk_at dksX9_far_2 2 rfl rfl)
theorem dX9_far_51 : decode cX9_far 51 = .ok (.imul, 1) := dk_104 (dk_at dksX9_far_2 3 rfl rfl)
theorem dX9_far_52 : decode cX9_far 52 = .ok (.iload_n 2, 1) := dk_28 (dk_at dksX9_far_2 4 rfl rfl)
theorem dX9_far_53 : decode cX9_far 53 = .ok (.iadd, 1) := dk_96 (dk_at dksX9_far_2 5 rfl rfl)
theorem dX9_far_54 : decode cX9_far 54 = .ok (.iaload, 1) := dk_46 (dk_at dksX9_far_2 6 rfl rfl)
theorem dX9_far_55 : decode cX9_far 55 = .ok (.ireturn, 1) := dk_172 (dk_at dksX9_far_2 7 rfl rfl)
abbrev cX9_oath : ByteArray := prog_13_method_21_code
def yX9_oath : MethodName := ⟨RX9, "oath", "(II)I"⟩
def dkwX9_oath_3 : List UInt8 := [167, 0, 12, 42, 180, 0, 40, 16, 14, 27, 96, 46, 172]
abbrev dktX9_oath_3 : List UInt8 := dkwX9_oath_3 ++ []
def dkwX9_oath_2 : List UInt8 := [160, 0, 12, 42, 180, 0, 31, 27, 46, 167, 0, 26, 28, 5, 160, 0, 12, 42, 180, 0, 34, 27, 46]
abbrev dktX9_oath_2 : List UInt8 := dkwX9_oath_2 ++ dktX9_oath_3
def dkwX9_oath_1 : List UInt8 := [184, 0, 72, 154, 0, 5, 2, 172, 28, 154, 0, 12, 42, 180, 0, 28, 27, 46, 167, 0, 40, 28, 4]
abbrev dktX9_oath_1 : List UInt8 := dkwX9_oath_1 ++ dktX9_oath_2
def dkwX9_oath_0 : List UInt8 := [42, 3, 181, 0, 68, 27, 3, 42, 180, 0, 13, 4, 46, 4, 100, 184, 0, 72, 153, 0, 12, 28, 3, 6]
abbrev dktX9_oath_0 : List UInt8 := dkwX9_oath_0 ++ dktX9_oath_1
theorem dksX9_oath_0 : cX9_oath.data.toList.drop 0 = dktX9_oath_0 := by decide +kernel
theorem dksX9_oath_1 : cX9_oath.data.toList.drop 24 = dktX9_oath_1 := dk_seg dksX9_oath_0 24 rfl rfl
theorem dksX9_oath_2 : cX9_oath.data.toList.drop 47 = dktX9_oath_2 := dk_seg dksX9_oath_1 23 rfl rfl
theorem dksX9_oath_3 : cX9_oath.data.toList.drop 70 = dktX9_oath_3 := dk_seg dksX9_oath_2 23 rfl rfl
theorem dX9_oath_0 : decode cX9_oath 0 = .ok (.aload_n 0, 1) := dk_42 (dk_at dksX9_oath_0 0 rfl rfl)
theorem dX9_oath_1 : decode cX9_oath 1 = .ok (.iconst 0, 1) := dk_3 (dk_at dksX9_oath_0 1 rfl rfl)
theorem dX9_oath_2 : decode cX9_oath 2 = .ok (.putfield 68, 3) := dk_181 0 68 (dk_at dksX9_oath_0 2 rfl rfl)
theorem dX9_oath_5 : decode cX9_oath 5 = .ok (.iload_n 1, 1) := dk_27 (dk_at dksX9_oath_0 5 rfl rfl)
theorem dX9_oath_6 : decode cX9_oath 6 = .ok (.iconst 0, 1) := dk_3 (dk_at dksX9_oath_0 6 rfl rfl)
theorem dX9_oath_7 : decode cX9_oath 7 = .ok (.aload_n 0, 1) := dk_42 (dk_at dksX9_oath_0 7 rfl rfl)
theorem dX9_oath_8 : decode cX9_oath 8 = .ok (.getfield 13, 3) := dk_180 0 13 (dk_at dksX9_oath_0 8 rfl rfl)
theorem dX9_oath_11 : decode cX9_oath 11 = .ok (.iconst 1, 1) := dk_4 (dk_at dksX9_oath_0 11 rfl rfl)
theorem dX9_oath_12 : decode cX9_oath 12 = .ok (.iaload, 1) := dk_46 (dk_at dksX9_oath_0 12 rfl rfl)
theorem dX9_oath_13 : decode cX9_oath 13 = .ok (.iconst 1, 1) := dk_4 (dk_at dksX9_oath_0 13 rfl rfl)
theorem dX9_oath_14 : decode cX9_oath 14 = .ok (.isub, 1) := dk_100 (dk_at dksX9_oath_0 14 rfl rfl)
theorem dX9_oath_15 : decode cX9_oath 15 = .ok (.invokestatic 72, 3) := dk_184 0 72 (dk_at dksX9_oath_0 15 rfl rfl)
theorem dX9_oath_18 : decode cX9_oath 18 = .ok (.ifCond .eq 12, 3) := dk_153 0 12 (dk_at dksX9_oath_0 18 rfl rfl)
theorem dX9_oath_21 : decode cX9_oath 21 = .ok (.iload_n 2, 1) := dk_28 (dk_at dksX9_oath_0 21 rfl rfl)
theorem dX9_oath_22 : decode cX9_oath 22 = .ok (.iconst 0, 1) := dk_3 (dk_at dksX9_oath_0 22 rfl rfl)
theorem dX9_oath_23 : decode cX9_oath 23 = .ok (.iconst 3, 1) := dk_6 (dk_at dksX9_oath_0 23 rfl rfl)
theorem dX9_oath_24 : decode cX9_oath 24 = .ok (.invokestatic 72, 3) := dk_184 0 72 (dk_at dksX9_oath_1 0 rfl rfl)
theorem dX9_oath_27 : decode cX9_oath 27 = .ok (.ifCond .ne 5, 3) := dk_154 0 5 (dk_at dksX9_oath_1 3 rfl rfl)
theorem dX9_oath_30 : decode cX9_oath 30 = .ok (.iconst (-1), 1) := dk_2 (dk_at dksX9_oath_1 6 rfl rfl)
theorem dX9_oath_31 : decode cX9_oath 31 = .ok (.ireturn, 1) := dk_172 (dk_at dksX9_oath_1 7 rfl rfl)
theorem dX9_oath_32 : decode cX9_oath 32 = .ok (.iload_n 2, 1) := dk_28 (dk_at dksX9_oath_1 8 rfl rfl)
theorem dX9_oath_33 : decode cX9_oath 33 = .ok (.ifCond .ne 12, 3) := dk_154 0 12 (dk_at dksX9_oath_1 9 rfl rfl)
theorem dX9_oath_36 : decode cX9_oath 36 = .ok (.aload_n 0, 1) := dk_42 (dk_at dksX9_oath_1 12 rfl rfl)
theorem dX9_oath_37 : decode cX9_oath 37 = .ok (.getfield 28, 3) := dk_180 0 28 (dk_at dksX9_oath_1 13 rfl rfl)
theorem dX9_oath_40 : decode cX9_oath 40 = .ok (.iload_n 1, 1) := dk_27 (dk_at dksX9_oath_1 16 rfl rfl)
theorem dX9_oath_41 : decode cX9_oath 41 = .ok (.iaload, 1) := dk_46 (dk_at dksX9_oath_1 17 rfl rfl)
theorem dX9_oath_42 : decode cX9_oath 42 = .ok (.goto 40, 3) := dk_167 0 40 (dk_at dksX9_oath_1 18 rfl rfl)
theorem dX9_oath_45 : decode cX9_oath 45 = .ok (.iload_n 2, 1) := dk_28 (dk_at dksX9_oath_1 21 rfl rfl)
theorem dX9_oath_46 : decode cX9_oath 46 = .ok (.iconst 1, 1) := dk_4 (dk_at dksX9_oath_1 22 rfl rfl)
theorem dX9_oath_47 : decode cX9_oath 47 = .ok (.if_icmp .ne 12, 3) := dk_160 0 12 (dk_at dksX9_oath_2 0 rfl rfl)
theorem dX9_oath_50 : decode cX9_oath 50 = .ok (.aload_n 0, 1) := dk_42 (dk_at dksX9_oath_2 3 rfl rfl)
theorem dX9_oath_51 : decode cX9_oath 51 = .ok (.getfield 31, 3) := dk_180 0 31 (dk_at dksX9_oath_2 4 rfl rfl)
theorem dX9_oath_54 : decode cX9_oath 54 = .ok (.iload_n 1, 1) := dk_27 (dk_at dksX9_oath_2 7 rfl rfl)
theorem dX9_oath_55 : decode cX9_oath 55 = .ok (.iaload, 1) := dk_46 (dk_at dksX9_oath_2 8 rfl rfl)
theorem dX9_oath_56 : decode cX9_oath 56 = .ok (.goto 26, 3) := dk_167 0 26 (dk_at dksX9_oath_2 9 rfl rfl)
theorem dX9_oath_59 : decode cX9_oath 59 = .ok (.iload_n 2, 1) := dk_28 (dk_at dksX9_oath_2 12 rfl rfl)
theorem dX9_oath_60 : decode cX9_oath 60 = .ok (.iconst 2, 1) := dk_5 (dk_at dksX9_oath_2 13 rfl rfl)
theorem dX9_oath_61 : decode cX9_oath 61 = .ok (.if_icmp .ne 12, 3) := dk_160 0 12 (dk_at dksX9_oath_2 14 rfl rfl)
theorem dX9_oath_64 : decode cX9_oath 64 = .ok (.aload_n 0, 1) := dk_42 (dk_at dksX9_oath_2 17 rfl rfl)
theorem dX9_oath_65 : decode cX9_oath 65 = .ok (.getfield 34, 3) := dk_180 0 34 (dk_at dksX9_oath_2 18 rfl rfl)
theorem dX9_oath_68 : decode cX9_oath 68 = .ok (.iload_n 1, 1) := dk_27 (dk_at dksX9_oath_2 21 rfl rfl)
theorem dX9_oath_69 : decode cX9_oath 69 = .ok (.iaload, 1) := dk_46 (dk_at dksX9_oath_2 22 rfl rfl)
theorem dX9_oath_70 : decode cX9_oath 70 = .ok (.goto 12, 3) := dk_167 0 12 (dk_at dksX9_oath_3 0 rfl rfl)
theorem dX9_oath_73 : decode cX9_oath 73 = .ok (.aload_n 0, 1) := dk_42 (dk_at dksX9_oath_3 3 rfl rfl)
theorem dX9_oath_74 : decode cX9_oath 74 = .ok (.getfield 40, 3) := dk_180 0 40 (dk_at dksX9_oath_3 4 rfl rfl)
theorem dX9_oath_77 : decode cX9_oath 77 = .ok (.bipush 14, 2) := dk_16 14 (dk_at dksX9_oath_3 7 rfl rfl)
theorem dX9_oath_79 : decode cX9_oath 79 = .ok (.iload_n 1, 1) := dk_27 (dk_at dksX9_oath_3 9 rfl rfl)
theorem dX9_oath_80 : decode cX9_oath 80 = .ok (.iadd, 1) := dk_96 (dk_at dksX9_oath_3 10 rfl rfl)
theorem dX9_oath_81 : decode cX9_oath 81 = .ok (.iaload, 1) := dk_46 (dk_at dksX9_oath_3 11 rfl rfl)
theorem dX9_oath_82 : decode cX9_oath 82 = .ok (.ireturn, 1) := dk_172 (dk_at dksX9_oath_3 12 rfl rfl)
abbrev cX9_now : ByteArray := prog_13_method_22_code
def yX9_now : MethodName := ⟨RX9, "now", "(I)I"⟩
def dkwX9_now_5 : List UInt8 := [180, 0, 124, 172]
abbrev dktX9_now_5 : List UInt8 := dkwX9_now_5 ++ []
def dkwX9_now_4 : List UInt8 := [27, 46, 167, 0, 25, 27, 5, 160, 0, 7, 28, 167, 0, 16, 27, 6, 160, 0, 7, 29, 167, 0, 7, 42]
abbrev dktX9_now_4 : List UInt8 := dkwX9_now_4 ++ dktX9_now_5
def dkwX9_now_3 : List UInt8 := [21, 4, 120, 167, 0, 4, 3, 128, 62, 132, 4, 1, 167, 255, 197, 27, 5, 162, 0, 12, 42, 180, 0, 40]
abbrev dktX9_now_3 : List UInt8 := dkwX9_now_3 ++ dktX9_now_4
def dkwX9_now_2 : List UInt8 := [160, 0, 10, 4, 21, 4, 120, 167, 0, 4, 3, 128, 61, 29, 42, 21, 4, 182, 0, 135, 153, 0, 10, 4]
abbrev dktX9_now_2 : List UInt8 := dkwX9_now_2 ++ dktX9_now_3
def dkwX9_now_1 : List UInt8 := [21, 4, 42, 180, 0, 13, 3, 46, 162, 0, 54, 28, 42, 180, 0, 40, 5, 21, 4, 96, 46, 21, 4]
abbrev dktX9_now_1 : List UInt8 := dkwX9_now_1 ++ dktX9_now_2
def dkwX9_now_0 : List UInt8 := [42, 3, 181, 0, 68, 27, 3, 7, 184, 0, 72, 154, 0, 5, 2, 172, 3, 61, 3, 62, 3, 54, 4]
abbrev dktX9_now_0 : List UInt8 := dkwX9_now_0 ++ dktX9_now_1
theorem dksX9_now_0 : cX9_now.data.toList.drop 0 = dktX9_now_0 := by decide +kernel
theorem dksX9_now_1 : cX9_now.data.toList.drop 23 = dktX9_now_1 := dk_seg dksX9_now_0 23 rfl rfl
theorem dksX9_now_2 : cX9_now.data.toList.drop 46 = dktX9_now_2 := dk_seg dksX9_now_1 23 rfl rfl
theorem dksX9_now_3 : cX9_now.data.toList.drop 70 = dktX9_now_3 := dk_seg dksX9_now_2 24 rfl rfl
theorem dksX9_now_4 : cX9_now.data.toList.drop 94 = dktX9_now_4 := dk_seg dksX9_now_3 24 rfl rfl
theorem dksX9_now_5 : cX9_now.data.toList.drop 118 = dktX9_now_5 := dk_seg dksX9_now_4 24 rfl rfl
theorem dX9_now_0 : decode cX9_now 0 = .ok (.aload_n 0, 1) := dk_42 (dk_at dksX9_now_0 0 rfl rfl)
theorem dX9_now_1 : decode cX9_now 1 = .ok (.iconst 0, 1) := dk_3 (dk_at dksX9_now_0 1 rfl rfl)
theorem dX9_now_2 : decode cX9_now 2 = .ok (.putfield 68, 3) := dk_181 0 68 (dk_at dksX9_now_0 2 rfl rfl)
theorem dX9_now_5 : decode cX9_now 5 = .ok (.iload_n 1, 1) := dk_27 (dk_at dksX9_now_0 5 rfl rfl)
theorem dX9_now_6 : decode cX9_now 6 = .ok (.iconst 0, 1) := dk_3 (dk_at dksX9_now_0 6 rfl rfl)
theorem dX9_now_7 : decode cX9_now 7 = .ok (.iconst 4, 1) := dk_7 (dk_at dksX9_now_0 7 rfl rfl)
theorem dX9_now_8 : decode cX9_now 8 = .ok (.invokestatic 72, 3) := dk_184 0 72 (dk_at dksX9_now_0 8 rfl rfl)
theorem dX9_now_11 : decode cX9_now 11 = .ok (.ifCond .ne 5, 3) := dk_154 0 5 (dk_at dksX9_now_0 11 rfl rfl)
theorem dX9_now_14 : decode cX9_now 14 = .ok (.iconst (-1), 1) := dk_2 (dk_at dksX9_now_0 14 rfl rfl)
theorem dX9_now_15 : decode cX9_now 15 = .ok (.ireturn, 1) := dk_172 (dk_at dksX9_now_0 15 rfl rfl)
theorem dX9_now_16 : decode cX9_now 16 = .ok (.iconst 0, 1) := dk_3 (dk_at dksX9_now_0 16 rfl rfl)
theorem dX9_now_17 : decode cX9_now 17 = .ok (.istore_n 2, 1) := dk_61 (dk_at dksX9_now_0 17 rfl rfl)
theorem dX9_now_18 : decode cX9_now 18 = .ok (.iconst 0, 1) := dk_3 (dk_at dksX9_now_0 18 rfl rfl)
theorem dX9_now_19 : decode cX9_now 19 = .ok (.istore_n 3, 1) := dk_62 (dk_at dksX9_now_0 19 rfl rfl)
theorem dX9_now_20 : decode cX9_now 20 = .ok (.iconst 0, 1) := dk_3 (dk_at dksX9_now_0 20 rfl rfl)
theorem dX9_now_21 : decode cX9_now 21 = .ok (.istore 4, 2) := dk_54 4 (dk_at dksX9_now_0 21 rfl rfl)
theorem dX9_now_23 : decode cX9_now 23 = .ok (.iload 4, 2) := dk_21 4 (dk_at dksX9_now_1 0 rfl rfl)
theorem dX9_now_25 : decode cX9_now 25 = .ok (.aload_n 0, 1) := dk_42 (dk_at dksX9_now_1 2 rfl rfl)
theorem dX9_now_26 : decode cX9_now 26 = .ok (.getfield 13, 3) := dk_180 0 13 (dk_at dksX9_now_1 3 rfl rfl)
theorem dX9_now_29 : decode cX9_now 29 = .ok (.iconst 0, 1) := dk_3 (dk_at dksX9_now_1 6 rfl rfl)
theorem dX9_now_30 : decode cX9_now 30 = .ok (.iaload, 1) := dk_46 (dk_at dksX9_now_1 7 rfl rfl)
theorem dX9_now_31 : decode cX9_now 31 = .ok (.if_icmp .ge 54, 3) := dk_162 0 54 (dk_at dksX9_now_1 8 rfl rfl)
theorem dX9_now_34 : decode cX9_now 34 = .ok (.iload_n 2, 1) := dk_28 (dk_at dksX9_now_1 11 rfl rfl)
theorem dX9_now_35 : decode cX9_now 35 = .ok (.aload_n 0, 1) := dk_42 (dk_at dksX9_now_1 12 rfl rfl)
theorem dX9_now_36 : decode cX9_now 36 = .ok (.getfield 40, 3) := dk_180 0 40 (dk_at dksX9_now_1 13 rfl rfl)
theorem dX9_now_39 : decode cX9_now 39 = .ok (.iconst 2, 1) := dk_5 (dk_at dksX9_now_1 16 rfl rfl)
theorem dX9_now_40 : decode cX9_now 40 = .ok (.iload 4, 2) := dk_21 4 (dk_at dksX9_now_1 17 rfl rfl)
theorem dX9_now_42 : decode cX9_now 42 = .ok (.iadd, 1) := dk_96 (dk_at dksX9_now_1 19 rfl rfl)
theorem dX9_now_43 : decode cX9_now 43 = .ok (.iaload, 1) := dk_46 (dk_at dksX9_now_1 20 rfl rfl)
theorem dX9_now_44 : decode cX9_now 44 = .ok (.iload 4, 2) := dk_21 4 (dk_at dksX9_now_1 21 rfl rfl)
theorem dX9_now_46 : decode cX9_now 46 = .ok (.if_icmp .ne 10, 3) := dk_160 0 10 (dk_at dksX9_now_2 0 rfl rfl)
theorem dX9_now_49 : decode cX9_now 49 = .ok (.iconst 1, 1) := dk_4 (dk_at dksX9_now_2 3 rfl rfl)
theorem dX9_now_50 : decode cX9_now 50 = .ok (.iload 4, 2) := dk_21 4 (dk_at dksX9_now_2 4 rfl rfl)
theorem dX9_now_52 : decode cX9_now 52 = .ok (.ishl, 1) := dk_120 (dk_at dksX9_now_2 6 rfl rfl)
theorem dX9_now_53 : decode cX9_now 53 = .ok (.goto 4, 3) := dk_167 0 4 (dk_at dksX9_now_2 7 rfl rfl)
theorem dX9_now_56 : decode cX9_now 56 = .ok (.iconst 0, 1) := dk_3 (dk_at dksX9_now_2 10 rfl rfl)
theorem dX9_now_57 : decode cX9_now 57 = .ok (.ior, 1) := dk_128 (dk_at dksX9_now_2 11 rfl rfl)
theorem dX9_now_58 : decode cX9_now 58 = .ok (.istore_n 2, 1) := dk_61 (dk_at dksX9_now_2 12 rfl rfl)
theorem dX9_now_59 : decode cX9_now 59 = .ok (.iload_n 3, 1) := dk_29 (dk_at dksX9_now_2 13 rfl rfl)
theorem dX9_now_60 : decode cX9_now 60 = .ok (.aload_n 0, 1) := dk_42 (dk_at dksX9_now_2 14 rfl rfl)
theorem dX9_now_61 : decode cX9_now 61 = .ok (.iload 4, 2) := dk_21 4 (dk_at dksX9_now_2 15 rfl rfl)
theorem dX9_now_63 : decode cX9_now 63 = .ok (.invokevirtual 135, 3) := dk_182 0 135 (dk_at dksX9_now_2 17 rfl rfl)
theorem dX9_now_66 : decode cX9_now 66 = .ok (.ifCond .eq 10, 3) := dk_153 0 10 (dk_at dksX9_now_2 20 rfl rfl)
theorem dX9_now_69 : decode cX9_now 69 = .ok (.iconst 1, 1) := dk_4 (dk_at dksX9_now_2 23 rfl rfl)
theorem dX9_now_70 : decode cX9_now 70 = .ok (.iload 4, 2) := dk_21 4 (dk_at dksX9_now_3 0 rfl rfl)
theorem dX9_now_72 : decode cX9_now 72 = .ok (.ishl, 1) := dk_120 (dk_at dksX9_now_3 2 rfl rfl)
theorem dX9_now_73 : decode cX9_now 73 = .ok (.goto 4, 3) := dk_167 0 4 (dk_at dksX9_now_3 3 rfl rfl)
theorem dX9_now_76 : decode cX9_now 76 = .ok (.iconst 0, 1) := dk_3 (dk_at dksX9_now_3 6 rfl rfl)
theorem dX9_now_77 : decode cX9_now 77 = .ok (.ior, 1) := dk_128 (dk_at dksX9_now_3 7 rfl rfl)
theorem dX9_now_78 : decode cX9_now 78 = .ok (.istore_n 3, 1) := dk_62 (dk_at dksX9_now_3 8 rfl rfl)
theorem dX9_now_79 : decode cX9_now 79 = .ok (.iinc 4 1, 3) := dk_132 4 1 (dk_at dksX9_now_3 9 rfl rfl)
theorem dX9_now_82 : decode cX9_now 82 = .ok (.goto (-59), 3) := dk_167 255 197 (dk_at dksX9_now_3 12 rfl rfl)
theorem dX9_now_85 : decode cX9_now 85 = .ok (.iload_n 1, 1) := dk_27 (dk_at dksX9_now_3 15 rfl rfl)
theorem dX9_now_86 : decode cX9_now 86 = .ok (.iconst 2, 1) := dk_5 (dk_at dksX9_now_3 16 rfl rfl)
theorem dX9_now_87 : decode cX9_now 87 = .ok (.if_icmp .ge 12, 3) := dk_162 0 12 (dk_at dksX9_now_3 17 rfl rfl)
theorem dX9_now_90 : decode cX9_now 90 = .ok (.aload_n 0, 1) := dk_42 (dk_at dksX9_now_3 20 rfl rfl)
theorem dX9_now_91 : decode cX9_now 91 = .ok (.getfield 40, 3) := dk_180 0 40 (dk_at dksX9_now_3 21 rfl rfl)
theorem dX9_now_94 : decode cX9_now 94 = .ok (.iload_n 1, 1) := dk_27 (dk_at dksX9_now_4 0 rfl rfl)
theorem dX9_now_95 : decode cX9_now 95 = .ok (.iaload, 1) := dk_46 (dk_at dksX9_now_4 1 rfl rfl)
theorem dX9_now_96 : decode cX9_now 96 = .ok (.goto 25, 3) := dk_167 0 25 (dk_at dksX9_now_4 2 rfl rfl)
theorem dX9_now_99 : decode cX9_now 99 = .ok (.iload_n 1, 1) := dk_27 (dk_at dksX9_now_4 5 rfl rfl)
theorem dX9_now_100 : decode cX9_now 100 = .ok (.iconst 2, 1) := dk_5 (dk_at dksX9_now_4 6 rfl rfl)
theorem dX9_now_101 : decode cX9_now 101 = .ok (.if_icmp .ne 7, 3) := dk_160 0 7 (dk_at dksX9_now_4 7 rfl rfl)
theorem dX9_now_104 : decode cX9_now 104 = .ok (.iload_n 2, 1) := dk_28 (dk_at dksX9_now_4 10 rfl rfl)
theorem dX9_now_105 : decode cX9_now 105 = .ok (.goto 16, 3) := dk_167 0 16 (dk_at dksX9_now_4 11 rfl rfl)
theorem dX9_now_108 : decode cX9_now 108 = .ok (.iload_n 1, 1) := dk_27 (dk_at dksX9_now_4 14 rfl rfl)
theorem dX9_now_109 : decode cX9_now 109 = .ok (.iconst 3, 1) := dk_6 (dk_at dksX9_now_4 15 rfl rfl)
theorem dX9_now_110 : decode cX9_now 110 = .ok (.if_icmp .ne 7, 3) := dk_160 0 7 (dk_at dksX9_now_4 16 rfl rfl)
theorem dX9_now_113 : decode cX9_now 113 = .ok (.iload_n 3, 1) := dk_29 (dk_at dksX9_now_4 19 rfl rfl)
theorem dX9_now_114 : decode cX9_now 114 = .ok (.goto 7, 3) := dk_167 0 7 (dk_at dksX9_now_4 20 rfl rfl)
theorem dX9_now_117 : decode cX9_now 117 = .ok (.aload_n 0, 1) := dk_42 (dk_at dksX9_now_4 23 rfl rfl)
theorem dX9_now_118 : decode cX9_now 118 = .ok (.getfield 124, 3) := dk_180 0 124 (dk_at dksX9_now_5 0 rfl rfl)
theorem dX9_now_121 : decode cX9_now 121 = .ok (.ireturn, 1) := dk_172 (dk_at dksX9_now_5 3 rfl rfl)
abbrev cX9_lots : ByteArray := prog_13_method_27_code
def yX9_lots : MethodName := ⟨RX9, "lots", "(I)I"⟩
def dkwX9_lots_1 : List UInt8 := [16, 60, 160, 0, 6, 16, 254, 172, 42, 182, 0, 156, 42, 42, 180, 0, 40, 27, 182, 0, 159, 172]
abbrev dktX9_lots_1 : List UInt8 := dkwX9_lots_1 ++ []
def dkwX9_lots_0 : List UInt8 := [42, 3, 181, 0, 68, 27, 3, 17, 39, 15, 184, 0, 72, 154, 0, 5, 2, 172, 42, 180, 0, 40, 3, 46]
abbrev dktX9_lots_0 : List UInt8 := dkwX9_lots_0 ++ dktX9_lots_1
theorem dksX9_lots_0 : cX9_lots.data.toList.drop 0 = dktX9_lots_0 := by decide +kernel
theorem dksX9_lots_1 : cX9_lots.data.toList.drop 24 = dktX9_lots_1 := dk_seg dksX9_lots_0 24 rfl rfl
theorem dX9_lots_0 : decode cX9_lots 0 = .ok (.aload_n 0, 1) := dk_42 (dk_at dksX9_lots_0 0 rfl rfl)
theorem dX9_lots_1 : decode cX9_lots 1 = .ok (.iconst 0, 1) := dk_3 (dk_at dksX9_lots_0 1 rfl rfl)
theorem dX9_lots_2 : decode cX9_lots 2 = .ok (.putfield 68, 3) := dk_181 0 68 (dk_at dksX9_lots_0 2 rfl rfl)
theorem dX9_lots_5 : decode cX9_lots 5 = .ok (.iload_n 1, 1) := dk_27 (dk_at dksX9_lots_0 5 rfl rfl)
theorem dX9_lots_6 : decode cX9_lots 6 = .ok (.iconst 0, 1) := dk_3 (dk_at dksX9_lots_0 6 rfl rfl)
theorem dX9_lots_7 : decode cX9_lots 7 = .ok (.sipush 9999, 3) := dk_17 39 15 (dk_at dksX9_lots_0 7 rfl rfl)
theorem dX9_lots_10 : decode cX9_lots 10 = .ok (.invokestatic 72, 3) := dk_184 0 72 (dk_at dksX9_lots_0 10 rfl rfl)
theorem dX9_lots_13 : decode cX9_lots 13 = .ok (.ifCond .ne 5, 3) := dk_154 0 5 (dk_at dksX9_lots_0 13 rfl rfl)
theorem dX9_lots_16 : decode cX9_lots 16 = .ok (.iconst (-1), 1) := dk_2 (dk_at dksX9_lots_0 16 rfl rfl)
theorem dX9_lots_17 : decode cX9_lots 17 = .ok (.ireturn, 1) := dk_172 (dk_at dksX9_lots_0 17 rfl rfl)
theorem dX9_lots_18 : decode cX9_lots 18 = .ok (.aload_n 0, 1) := dk_42 (dk_at dksX9_lots_0 18 rfl rfl)
theorem dX9_lots_19 : decode cX9_lots 19 = .ok (.getfield 40, 3) := dk_180 0 40 (dk_at dksX9_lots_0 19 rfl rfl)
theorem dX9_lots_22 : decode cX9_lots 22 = .ok (.iconst 0, 1) := dk_3 (dk_at dksX9_lots_0 22 rfl rfl)
theorem dX9_lots_23 : decode cX9_lots 23 = .ok (.iaload, 1) := dk_46 (dk_at dksX9_lots_0 23 rfl rfl)
theorem dX9_lots_24 : decode cX9_lots 24 = .ok (.bipush 60, 2) := dk_16 60 (dk_at dksX9_lots_1 0 rfl rfl)
theorem dX9_lots_26 : decode cX9_lots 26 = .ok (.if_icmp .ne 6, 3) := dk_160 0 6 (dk_at dksX9_lots_1 2 rfl rfl)
theorem dX9_lots_29 : decode cX9_lots 29 = .ok (.bipush (-2), 2) := dk_16 254 (dk_at dksX9_lots_1 5 rfl rfl)
theorem dX9_lots_31 : decode cX9_lots 31 = .ok (.ireturn, 1) := dk_172 (dk_at dksX9_lots_1 7 rfl rfl)
theorem dX9_lots_32 : decode cX9_lots 32 = .ok (.aload_n 0, 1) := dk_42 (dk_at dksX9_lots_1 8 rfl rfl)
theorem dX9_lots_33 : decode cX9_lots 33 = .ok (.invokevirtual 156, 3) := dk_182 0 156 (dk_at dksX9_lots_1 9 rfl rfl)
theorem dX9_lots_36 : decode cX9_lots 36 = .ok (.aload_n 0, 1) := dk_42 (dk_at dksX9_lots_1 12 rfl rfl)
theorem dX9_lots_37 : decode cX9_lots 37 = .ok (.aload_n 0, 1) := dk_42 (dk_at dksX9_lots_1 13 rfl rfl)
theorem dX9_lots_38 : decode cX9_lots 38 = .ok (.getfield 40, 3) := dk_180 0 40 (dk_at dksX9_lots_1 14 rfl rfl)
theorem dX9_lots_41 : decode cX9_lots 41 = .ok (.iload_n 1, 1) := dk_27 (dk_at dksX9_lots_1 17 rfl rfl)
theorem dX9_lots_42 : decode cX9_lots 42 = .ok (.invokevirtual 159, 3) := dk_182 0 159 (dk_at dksX9_lots_1 18 rfl rfl)
theorem dX9_lots_45 : decode cX9_lots 45 = .ok (.ireturn, 1) := dk_172 (dk_at dksX9_lots_1 21 rfl rfl)
abbrev cX9_notes : ByteArray := prog_13_method_23_code
def yX9_notes : MethodName := ⟨RX9, "notes", "()V"⟩
def dkwX9_notes_3 : List UInt8 := [79, 132, 1, 1, 167, 255, 227, 42, 89, 180, 0, 124, 4, 96, 181, 0, 124, 177]
abbrev dktX9_notes_3 : List UInt8 := dkwX9_notes_3 ++ []
def dkwX9_notes_2 : List UInt8 := [16, 56, 162, 0, 29, 42, 180, 0, 53, 16, 56, 42, 180, 0, 124, 104, 27, 96, 42, 180, 0, 40, 27, 46]
abbrev dktX9_notes_2 : List UInt8 := dkwX9_notes_2 ++ dktX9_notes_3
def dkwX9_notes_1 : List UInt8 := [180, 0, 53, 27, 16, 56, 96, 46, 79, 132, 1, 1, 167, 255, 231, 42, 16, 9, 181, 0, 124, 3, 60, 27]
abbrev dktX9_notes_1 : List UInt8 := dkwX9_notes_1 ++ dktX9_notes_2
def dkwX9_notes_0 : List UInt8 := [42, 180, 0, 124, 16, 10, 160, 0, 39, 3, 60, 27, 17, 1, 248, 162, 0, 24, 42, 180, 0, 53, 27, 42]
abbrev dktX9_notes_0 : List UInt8 := dkwX9_notes_0 ++ dktX9_notes_1
theorem dksX9_notes_0 : cX9_notes.data.toList.drop 0 = dktX9_notes_0 := by decide +kernel
theorem dksX9_notes_1 : cX9_notes.data.toList.drop 24 = dktX9_notes_1 := dk_seg dksX9_notes_0 24 rfl rfl
theorem dksX9_notes_2 : cX9_notes.data.toList.drop 48 = dktX9_notes_2 := dk_seg dksX9_notes_1 24 rfl rfl
theorem dksX9_notes_3 : cX9_notes.data.toList.drop 72 = dktX9_notes_3 := dk_seg dksX9_notes_2 24 rfl rfl
theorem dX9_notes_0 : decode cX9_notes 0 = .ok (.aload_n 0, 1) := dk_42 (dk_at dksX9_notes_0 0 rfl rfl)
theorem dX9_notes_1 : decode cX9_notes 1 = .ok (.getfield 124, 3) := dk_180 0 124 (dk_at dksX9_notes_0 1 rfl rfl)
theorem dX9_notes_4 : decode cX9_notes 4 = .ok (.bipush 10, 2) := dk_16 10 (dk_at dksX9_notes_0 4 rfl rfl)
theorem dX9_notes_6 : decode cX9_notes 6 = .ok (.if_icmp .ne 39, 3) := dk_160 0 39 (dk_at dksX9_notes_0 6 rfl rfl)
theorem dX9_notes_9 : decode cX9_notes 9 = .ok (.iconst 0, 1) := dk_3 (dk_at dksX9_notes_0 9 rfl rfl)
theorem dX9_notes_10 : decode cX9_notes 10 = .ok (.istore_n 1, 1) := dk_60 (dk_at dksX9_notes_0 10 rfl rfl)
theorem dX9_notes_11 : decode cX9_notes 11 = .ok (.iload_n 1, 1) := dk_27 (dk_at dksX9_notes_0 11 rfl rfl)
theorem dX9_notes_12 : decode cX9_notes 12 = .ok (.sipush 504, 3) := dk_17 1 248 (dk_at dksX9_notes_0 12 rfl rfl)
theorem dX9_notes_15 : decode cX9_notes 15 = .ok (.if_icmp .ge 24, 3) := dk_162 0 24 (dk_at dksX9_notes_0 15 rfl rfl)
theorem dX9_notes_18 : decode cX9_notes 18 = .ok (.aload_n 0, 1) := dk_42 (dk_at dksX9_notes_0 18 rfl rfl)
theorem dX9_notes_19 : decode cX9_notes 19 = .ok (.getfield 53, 3) := dk_180 0 53 (dk_at dksX9_notes_0 19 rfl rfl)
theorem dX9_notes_22 : decode cX9_notes 22 = .ok (.iload_n 1, 1) := dk_27 (dk_at dksX9_notes_0 22 rfl rfl)
theorem dX9_notes_23 : decode cX9_notes 23 = .ok (.aload_n 0, 1) := dk_42 (dk_at dksX9_notes_0 23 rfl rfl)
theorem dX9_notes_24 : decode cX9_notes 24 = .ok (.getfield 53, 3) := dk_180 0 53 (dk_at dksX9_notes_1 0 rfl rfl)
theorem dX9_notes_27 : decode cX9_notes 27 = .ok (.iload_n 1, 1) := dk_27 (dk_at dksX9_notes_1 3 rfl rfl)
theorem dX9_notes_28 : decode cX9_notes 28 = .ok (.bipush 56, 2) := dk_16 56 (dk_at dksX9_notes_1 4 rfl rfl)
theorem dX9_notes_30 : decode cX9_notes 30 = .ok (.iadd, 1) := dk_96 (dk_at dksX9_notes_1 6 rfl rfl)
theorem dX9_notes_31 : decode cX9_notes 31 = .ok (.iaload, 1) := dk_46 (dk_at dksX9_notes_1 7 rfl rfl)
theorem dX9_notes_32 : decode cX9_notes 32 = .ok (.iastore, 1) := dk_79 (dk_at dksX9_notes_1 8 rfl rfl)
theorem dX9_notes_33 : decode cX9_notes 33 = .ok (.iinc 1 1, 3) := dk_132 1 1 (dk_at dksX9_notes_1 9 rfl rfl)
theorem dX9_notes_36 : decode cX9_notes 36 = .ok (.goto (-25), 3) := dk_167 255 231 (dk_at dksX9_notes_1 12 rfl rfl)
theorem dX9_notes_39 : decode cX9_notes 39 = .ok (.aload_n 0, 1) := dk_42 (dk_at dksX9_notes_1 15 rfl rfl)
theorem dX9_notes_40 : decode cX9_notes 40 = .ok (.bipush 9, 2) := dk_16 9 (dk_at dksX9_notes_1 16 rfl rfl)
theorem dX9_notes_42 : decode cX9_notes 42 = .ok (.putfield 124, 3) := dk_181 0 124 (dk_at dksX9_notes_1 18 rfl rfl)
theorem dX9_notes_45 : decode cX9_notes 45 = .ok (.iconst 0, 1) := dk_3 (dk_at dksX9_notes_1 21 rfl rfl)
theorem dX9_notes_46 : decode cX9_notes 46 = .ok (.istore_n 1, 1) := dk_60 (dk_at dksX9_notes_1 22 rfl rfl)
theorem dX9_notes_47 : decode cX9_notes 47 = .ok (.iload_n 1, 1) := dk_27 (dk_at dksX9_notes_1 23 rfl rfl)
theorem dX9_notes_48 : decode cX9_notes 48 = .ok (.bipush 56, 2) := dk_16 56 (dk_at dksX9_notes_2 0 rfl rfl)
theorem dX9_notes_50 : decode cX9_notes 50 = .ok (.if_icmp .ge 29, 3) := dk_162 0 29 (dk_at dksX9_notes_2 2 rfl rfl)
theorem dX9_notes_53 : decode cX9_notes 53 = .ok (.aload_n 0, 1) := dk_42 (dk_at dksX9_notes_2 5 rfl rfl)
theorem dX9_notes_54 : decode cX9_notes 54 = .ok (.getfield 53, 3) := dk_180 0 53 (dk_at dksX9_notes_2 6 rfl rfl)
theorem dX9_notes_57 : decode cX9_notes 57 = .ok (.bipush 56, 2) := dk_16 56 (dk_at dksX9_notes_2 9 rfl rfl)
theorem dX9_notes_59 : decode cX9_notes 59 = .ok (.aload_n 0, 1) := dk_42 (dk_at dksX9_notes_2 11 rfl rfl)
theorem dX9_notes_60 : decode cX9_notes 60 = .ok (.getfield 124, 3) := dk_180 0 124 (dk_at dksX9_notes_2 12 rfl rfl)
theorem dX9_notes_63 : decode cX9_notes 63 = .ok (.imul, 1) := dk_104 (dk_at dksX9_notes_2 15 rfl rfl)
theorem dX9_notes_64 : decode cX9_notes 64 = .ok (.iload_n 1, 1) := dk_27 (dk_at dksX9_notes_2 16 rfl rfl)
theorem dX9_notes_65 : decode cX9_notes 65 = .ok (.iadd, 1) := dk_96 (dk_at dksX9_notes_2 17 rfl rfl)
theorem dX9_notes_66 : decode cX9_notes 66 = .ok (.aload_n 0, 1) := dk_42 (dk_at dksX9_notes_2 18 rfl rfl)
theorem dX9_notes_67 : decode cX9_notes 67 = .ok (.getfield 40, 3) := dk_180 0 40 (dk_at dksX9_notes_2 19 rfl rfl)
theorem dX9_notes_70 : decode cX9_notes 70 = .ok (.iload_n 1, 1) := dk_27 (dk_at dksX9_notes_2 22 rfl rfl)
theorem dX9_notes_71 : decode cX9_notes 71 = .ok (.iaload, 1) := dk_46 (dk_at dksX9_notes_2 23 rfl rfl)
theorem dX9_notes_72 : decode cX9_notes 72 = .ok (.iastore, 1) := dk_79 (dk_at dksX9_notes_3 0 rfl rfl)
theorem dX9_notes_73 : decode cX9_notes 73 = .ok (.iinc 1 1, 3) := dk_132 1 1 (dk_at dksX9_notes_3 1 rfl rfl)
theorem dX9_notes_76 : decode cX9_notes 76 = .ok (.goto (-29), 3) := dk_167 255 227 (dk_at dksX9_notes_3 4 rfl rfl)
theorem dX9_notes_79 : decode cX9_notes 79 = .ok (.aload_n 0, 1) := dk_42 (dk_at dksX9_notes_3 7 rfl rfl)
theorem dX9_notes_80 : decode cX9_notes 80 = .ok (.dup, 1) := dk_89 (dk_at dksX9_notes_3 8 rfl rfl)
theorem dX9_notes_81 : decode cX9_notes 81 = .ok (.getfield 124, 3) := dk_180 0 124 (dk_at dksX9_notes_3 9 rfl rfl)
theorem dX9_notes_84 : decode cX9_notes 84 = .ok (.iconst 1, 1) := dk_4 (dk_at dksX9_notes_3 12 rfl rfl)
theorem dX9_notes_85 : decode cX9_notes 85 = .ok (.iadd, 1) := dk_96 (dk_at dksX9_notes_3 13 rfl rfl)
theorem dX9_notes_86 : decode cX9_notes 86 = .ok (.putfield 124, 3) := dk_181 0 124 (dk_at dksX9_notes_3 14 rfl rfl)
theorem dX9_notes_89 : decode cX9_notes 89 = .ok (.return_, 1) := dk_177 (dk_at dksX9_notes_3 17 rfl rfl)
abbrev cX9_drawn : ByteArray := prog_13_method_26_code
def yX9_drawn : MethodName := ⟨RX9, "drawn", "([II)I"⟩
def dkwX9_drawn_7 : List UInt8 := [182, 0, 152, 172]
abbrev dktX9_drawn_7 : List UInt8 := dkwX9_drawn_7 ++ []
def dkwX9_drawn_6 : List UInt8 := [42, 180, 0, 65, 29, 46, 79, 132, 3, 1, 167, 255, 232, 43, 3, 92, 46, 4, 96, 79, 42, 43]
abbrev dktX9_drawn_6 : List UInt8 := dkwX9_drawn_6 ++ dktX9_drawn_7
def dkwX9_drawn_5 : List UInt8 := [46, 79, 132, 3, 1, 167, 255, 208, 3, 62, 29, 42, 180, 0, 13, 3, 46, 162, 0, 20, 43, 5, 29, 96]
abbrev dktX9_drawn_5 : List UInt8 := dkwX9_drawn_5 ++ dktX9_drawn_6
def dkwX9_drawn_4 : List UInt8 := [46, 104, 96, 29, 96, 92, 46, 4, 96, 79, 42, 180, 0, 65, 29, 43, 5, 42, 180, 0, 62, 29, 46, 96]
abbrev dktX9_drawn_4 : List UInt8 := dkwX9_drawn_4 ++ dktX9_drawn_5
def dkwX9_drawn_3 : List UInt8 := [182, 0, 149, 3, 62, 29, 42, 180, 0, 13, 3, 46, 162, 0, 44, 43, 16, 20, 16, 6, 43, 5, 29, 96]
abbrev dktX9_drawn_3 : List UInt8 := dkwX9_drawn_3 ++ dktX9_drawn_4
def dkwX9_drawn_2 : List UInt8 := [42, 180, 0, 28, 29, 46, 160, 0, 7, 4, 167, 0, 4, 5, 79, 132, 3, 1, 167, 255, 192, 42, 28]
abbrev dktX9_drawn_2 : List UInt8 := dkwX9_drawn_2 ++ dktX9_drawn_3
def dkwX9_drawn_1 : List UInt8 := [43, 16, 14, 29, 96, 46, 154, 0, 33, 43, 16, 14, 29, 96, 43, 5, 42, 180, 0, 31, 29, 46, 96, 46]
abbrev dktX9_drawn_1 : List UInt8 := dkwX9_drawn_1 ++ dktX9_drawn_2
def dkwX9_drawn_0 : List UInt8 := [3, 62, 29, 42, 180, 0, 13, 4, 46, 162, 0, 60, 42, 180, 0, 34, 29, 46, 43, 3, 46, 160, 0, 42]
abbrev dktX9_drawn_0 : List UInt8 := dkwX9_drawn_0 ++ dktX9_drawn_1
theorem dksX9_drawn_0 : cX9_drawn.data.toList.drop 0 = dktX9_drawn_0 := by decide +kernel
theorem dksX9_drawn_1 : cX9_drawn.data.toList.drop 24 = dktX9_drawn_1 := dk_seg dksX9_drawn_0 24 rfl rfl
theorem dksX9_drawn_2 : cX9_drawn.data.toList.drop 48 = dktX9_drawn_2 := dk_seg dksX9_drawn_1 24 rfl rfl
theorem dksX9_drawn_3 : cX9_drawn.data.toList.drop 71 = dktX9_drawn_3 := dk_seg dksX9_drawn_2 23 rfl rfl
theorem dksX9_drawn_4 : cX9_drawn.data.toList.drop 95 = dktX9_drawn_4 := dk_seg dksX9_drawn_3 24 rfl rfl
theorem dksX9_drawn_5 : cX9_drawn.data.toList.drop 119 = dktX9_drawn_5 := dk_seg dksX9_drawn_4 24 rfl rfl
theorem dksX9_drawn_6 : cX9_drawn.data.toList.drop 143 = dktX9_drawn_6 := dk_seg dksX9_drawn_5 24 rfl rfl
theorem dksX9_drawn_7 : cX9_drawn.data.toList.drop 165 = dktX9_drawn_7 := dk_seg dksX9_drawn_6 22 rfl rfl
theorem dX9_drawn_0 : decode cX9_drawn 0 = .ok (.iconst 0, 1) := dk_3 (dk_at dksX9_drawn_0 0 rfl rfl)
theorem dX9_drawn_1 : decode cX9_drawn 1 = .ok (.istore_n 3, 1) := dk_62 (dk_at dksX9_drawn_0 1 rfl rfl)
theorem dX9_drawn_2 : decode cX9_drawn 2 = .ok (.iload_n 3, 1) := dk_29 (dk_at dksX9_drawn_0 2 rfl rfl)
theorem dX9_drawn_3 : decode cX9_drawn 3 = .ok (.aload_n 0, 1) := dk_42 (dk_at dksX9_drawn_0 3 rfl rfl)
theorem dX9_drawn_4 : decode cX9_drawn 4 = .ok (.getfield 13, 3) := dk_180 0 13 (dk_at dksX9_drawn_0 4 rfl rfl)
theorem dX9_drawn_7 : decode cX9_drawn 7 = .ok (.iconst 1, 1) := dk_4 (dk_at dksX9_drawn_0 7 rfl rfl)
theorem dX9_drawn_8 : decode cX9_drawn 8 = .ok (.iaload, 1) := dk_46 (dk_at dksX9_drawn_0 8 rfl rfl)
theorem dX9_drawn_9 : decode cX9_drawn 9 = .ok (.if_icmp .ge 60, 3) := dk_162 0 60 (dk_at dksX9_drawn_0 9 rfl rfl)
theorem dX9_drawn_12 : decode cX9_drawn 12 = .ok (.aload_n 0, 1) := dk_42 (dk_at dksX9_drawn_0 12 rfl rfl)
theorem dX9_drawn_13 : decode cX9_drawn 13 = .ok (.getfield 34, 3) := dk_180 0 34 (dk_at dksX9_drawn_0 13 rfl rfl)
theorem dX9_drawn_16 : decode cX9_drawn 16 = .ok (.iload_n 3, 1) := dk_29 (dk_at dksX9_drawn_0 16 rfl rfl)
theorem dX9_drawn_17 : decode cX9_drawn 17 = .ok (.iaload, 1) := dk_46 (dk_at dksX9_drawn_0 17 rfl rfl)
theorem dX9_drawn_18 : decode cX9_drawn 18 = .ok (.aload_n 1, 1) := dk_43 (dk_at dksX9_drawn_0 18 rfl rfl)
theorem dX9_drawn_19 : decode cX9_drawn 19 = .ok (.iconst 0, 1) := dk_3 (dk_at dksX9_drawn_0 19 rfl rfl)
theorem dX9_drawn_20 : decode cX9_drawn 20 = .ok (.iaload, 1) := dk_46 (dk_at dksX9_drawn_0 20 rfl rfl)
theorem dX9_drawn_21 : decode cX9_drawn 21 = .ok (.if_icmp .ne 42, 3) := dk_160 0 42 (dk_at dksX9_drawn_0 21 rfl rfl)
theorem dX9_drawn_24 : decode cX9_drawn 24 = .ok (.aload_n 1, 1) := dk_43 (dk_at dksX9_drawn_1 0 rfl rfl)
theorem dX9_drawn_25 : decode cX9_drawn 25 = .ok (.bipush 14, 2) := dk_16 14 (dk_at dksX9_drawn_1 1 rfl rfl)
theorem dX9_drawn_27 : decode cX9_drawn 27 = .ok (.iload_n 3, 1) := dk_29 (dk_at dksX9_drawn_1 3 rfl rfl)
theorem dX9_drawn_28 : decode cX9_drawn 28 = .ok (.iadd, 1) := dk_96 (dk_at dksX9_drawn_1 4 rfl rfl)
theorem dX9_drawn_29 : decode cX9_drawn 29 = .ok (.iaload, 1) := dk_46 (dk_at dksX9_drawn_1 5 rfl rfl)
theorem dX9_drawn_30 : decode cX9_drawn 30 = .ok (.ifCond .ne 33, 3) := dk_154 0 33 (dk_at dksX9_drawn_1 6 rfl rfl)
theorem dX9_drawn_33 : decode cX9_drawn 33 = .ok (.aload_n 1, 1) := dk_43 (dk_at dksX9_drawn_1 9 rfl rfl)
theorem dX9_drawn_34 : decode cX9_drawn 34 = .ok (.bipush 14, 2) := dk_16 14 (dk_at dksX9_drawn_1 10 rfl rfl)
theorem dX9_drawn_36 : decode cX9_drawn 36 = .ok (.iload_n 3, 1) := dk_29 (dk_at dksX9_drawn_1 12 rfl rfl)
theorem dX9_drawn_37 : decode cX9_drawn 37 = .ok (.iadd, 1) := dk_96 (dk_at dksX9_drawn_1 13 rfl rfl)
theorem dX9_drawn_38 : decode cX9_drawn 38 = .ok (.aload_n 1, 1) := dk_43 (dk_at dksX9_drawn_1 14 rfl rfl)
theorem dX9_drawn_39 : decode cX9_drawn 39 = .ok (.iconst 2, 1) := dk_5 (dk_at dksX9_drawn_1 15 rfl rfl)
theorem dX9_drawn_40 : decode cX9_drawn 40 = .ok (.aload_n 0, 1) := dk_42 (dk_at dksX9_drawn_1 16 rfl rfl)
theorem dX9_drawn_41 : decode cX9_drawn 41 = .ok (.getfield 31, 3) := dk_180 0 31 (dk_at dksX9_drawn_1 17 rfl rfl)
theorem dX9_drawn_44 : decode cX9_drawn 44 = .ok (.iload_n 3, 1) := dk_29 (dk_at dksX9_drawn_1 20 rfl rfl)
theorem dX9_drawn_45 : decode cX9_drawn 45 = .ok (.iaload, 1) := dk_46 (dk_at dksX9_drawn_1 21 rfl rfl)
theorem dX9_drawn_46 : decode cX9_drawn 46 = .ok (.iadd, 1) := dk_96 (dk_at dksX9_drawn_1 22 rfl rfl)
theorem dX9_drawn_47 : decode cX9_drawn 47 = .ok (.iaload, 1) := dk_46 (dk_at dksX9_drawn_1 23 rfl rfl)
theorem dX9_drawn_48 : decode cX9_drawn 48 = .ok (.aload_n 0, 1) := dk_42 (dk_at dksX9_drawn_2 0 rfl rfl)
theorem dX9_drawn_49 : decode cX9_drawn 49 = .ok (.getfield 28, 3) := dk_180 0 28 (dk_at dksX9_drawn_2 1 rfl rfl)
theorem dX9_drawn_52 : decode cX9_drawn 52 = .ok (.iload_n 3, 1) := dk_29 (dk_at dksX9_drawn_2 4 rfl rfl)
theorem dX9_drawn_53 : decode cX9_drawn 53 = .ok (.iaload, 1) := dk_46 (dk_at dksX9_drawn_2 5 rfl rfl)
theorem dX9_drawn_54 : decode cX9_drawn 54 = .ok (.if_icmp .ne 7, 3) := dk_160 0 7 (dk_at dksX9_drawn_2 6 rfl rfl)
theorem dX9_drawn_57 : decode cX9_drawn 57 = .ok (.iconst 1, 1) := dk_4 (dk_at dksX9_drawn_2 9 rfl rfl)
theorem dX9_drawn_58 : decode cX9_drawn 58 = .ok (.goto 4, 3) := dk_167 0 4 (dk_at dksX9_drawn_2 10 rfl rfl)
theorem dX9_drawn_61 : decode cX9_drawn 61 = .ok (.iconst 2, 1) := dk_5 (dk_at dksX9_drawn_2 13 rfl rfl)
theorem dX9_drawn_62 : decode cX9_drawn 62 = .ok (.iastore, 1) := dk_79 (dk_at dksX9_drawn_2 14 rfl rfl)
theorem dX9_drawn_63 : decode cX9_drawn 63 = .ok (.iinc 3 1, 3) := dk_132 3 1 (dk_at dksX9_drawn_2 15 rfl rfl)
theorem dX9_drawn_66 : decode cX9_drawn 66 = .ok (.goto (-64), 3) := dk_167 255 192 (dk_at dksX9_drawn_2 18 rfl rfl)
theorem dX9_drawn_69 : decode cX9_drawn 69 = .ok (.aload_n 0, 1) := dk_42 (dk_at dksX9_drawn_2 21 rfl rfl)
theorem dX9_drawn_70 : decode cX9_drawn 70 = .ok (.iload_n 2, 1) := dk_28 (dk_at dksX9_drawn_2 22 rfl rfl)
theorem dX9_drawn_71 : decode cX9_drawn 71 = .ok (.invokevirtual 149, 3) := dk_182 0 149 (dk_at dksX9_drawn_3 0 rfl rfl)
theorem dX9_drawn_74 : decode cX9_drawn 74 = .ok (.iconst 0, 1) := dk_3 (dk_at dksX9_drawn_3 3 rfl rfl)
theorem dX9_drawn_75 : decode cX9_drawn 75 = .ok (.istore_n 3, 1) := dk_62 (dk_at dksX9_drawn_3 4 rfl rfl)
theorem dX9_drawn_76 : decode cX9_drawn 76 = .ok (.iload_n 3, 1) := dk_29 (dk_at dksX9_drawn_3 5 rfl rfl)
theorem dX9_drawn_77 : decode cX9_drawn 77 = .ok (.aload_n 0, 1) := dk_42 (dk_at dksX9_drawn_3 6 rfl rfl)
theorem dX9_drawn_78 : decode cX9_drawn 78 = .ok (.getfield 13, 3) := dk_180 0 13 (dk_at dksX9_drawn_3 7 rfl rfl)
theorem dX9_drawn_81 : decode cX9_drawn 81 = .ok (.iconst 0, 1) := dk_3 (dk_at dksX9_drawn_3 10 rfl rfl)
theorem dX9_drawn_82 : decode cX9_drawn 82 = .ok (.iaload, 1) := dk_46 (dk_at dksX9_drawn_3 11 rfl rfl)
theorem dX9_drawn_83 : decode cX9_drawn 83 = .ok (.if_icmp .ge 44, 3) := dk_162 0 44 (dk_at dksX9_drawn_3 12 rfl rfl)
theorem dX9_drawn_86 : decode cX9_drawn 86 = .ok (.aload_n 1, 1) := dk_43 (dk_at dksX9_drawn_3 15 rfl rfl)
theorem dX9_drawn_87 : decode cX9_drawn 87 = .ok (.bipush 20, 2) := dk_16 20 (dk_at dksX9_drawn_3 16 rfl rfl)
theorem dX9_drawn_89 : decode cX9_drawn 89 = .ok (.bipush 6, 2) := dk_16 6 (dk_at dksX9_drawn_3 18 rfl rfl)
theorem dX9_drawn_91 : decode cX9_drawn 91 = .ok (.aload_n 1, 1) := dk_43 (dk_at dksX9_drawn_3 20 rfl rfl)
theorem dX9_drawn_92 : decode cX9_drawn 92 = .ok (.iconst 2, 1) := dk_5 (dk_at dksX9_drawn_3 21 rfl rfl)
theorem dX9_drawn_93 : decode cX9_drawn 93 = .ok (.iload_n 3, 1) := dk_29 (dk_at dksX9_drawn_3 22 rfl rfl)
theorem dX9_drawn_94 : decode cX9_drawn 94 = .ok (.iadd, 1) := dk_96 (dk_at dksX9_drawn_3 23 rfl rfl)
theorem dX9_drawn_95 : decode cX9_drawn 95 = .ok (.iaload, 1) := dk_46 (dk_at dksX9_drawn_4 0 rfl rfl)
theorem dX9_drawn_96 : decode cX9_drawn 96 = .ok (.imul, 1) := dk_104 (dk_at dksX9_drawn_4 1 rfl rfl)
theorem dX9_drawn_97 : decode cX9_drawn 97 = .ok (.iadd, 1) := dk_96 (dk_at dksX9_drawn_4 2 rfl rfl)
theorem dX9_drawn_98 : decode cX9_drawn 98 = .ok (.iload_n 3, 1) := dk_29 (dk_at dksX9_drawn_4 3 rfl rfl)
theorem dX9_drawn_99 : decode cX9_drawn 99 = .ok (.iadd, 1) := dk_96 (dk_at dksX9_drawn_4 4 rfl rfl)
theorem dX9_drawn_100 : decode cX9_drawn 100 = .ok (.dup2, 1) := dk_92 (dk_at dksX9_drawn_4 5 rfl rfl)
theorem dX9_drawn_101 : decode cX9_drawn 101 = .ok (.iaload, 1) := dk_46 (dk_at dksX9_drawn_4 6 rfl rfl)
theorem dX9_drawn_102 : decode cX9_drawn 102 = .ok (.iconst 1, 1) := dk_4 (dk_at dksX9_drawn_4 7 rfl rfl)
theorem dX9_drawn_103 : decode cX9_drawn 103 = .ok (.iadd, 1) := dk_96 (dk_at dksX9_drawn_4 8 rfl rfl)
theorem dX9_drawn_104 : decode cX9_drawn 104 = .ok (.iastore, 1) := dk_79 (dk_at dksX9_drawn_4 9 rfl rfl)
theorem dX9_drawn_105 : decode cX9_drawn 105 = .ok (.aload_n 0, 1) := dk_42 (dk_at dksX9_drawn_4 10 rfl rfl)
theorem dX9_drawn_106 : decode cX9_drawn 106 = .ok (.getfield 65, 3) := dk_180 0 65 (dk_at dksX9_drawn_4 11 rfl rfl)
theorem dX9_drawn_109 : decode cX9_drawn 109 = .ok (.iload_n 3, 1) := dk_29 (dk_at dksX9_drawn_4 14 rfl rfl)
theorem dX9_drawn_110 : decode cX9_drawn 110 = .ok (.aload_n 1, 1) := dk_43 (dk_at dksX9_drawn_4 15 rfl rfl)
theorem dX9_drawn_111 : decode cX9_drawn 111 = .ok (.iconst 2, 1) := dk_5 (dk_at dksX9_drawn_4 16 rfl rfl)
theorem dX9_drawn_112 : decode cX9_drawn 112 = .ok (.aload_n 0, 1) := dk_42 (dk_at dksX9_drawn_4 17 rfl rfl)
theorem dX9_drawn_113 : decode cX9_drawn 113 = .ok (.getfield 62, 3) := dk_180 0 62 (dk_at dksX9_drawn_4 18 rfl rfl)
theorem dX9_drawn_116 : decode cX9_drawn 116 = .ok (.iload_n 3, 1) := dk_29 (dk_at dksX9_drawn_4 21 rfl rfl)
theorem dX9_drawn_117 : decode cX9_drawn 117 = .ok (.iaload, 1) := dk_46 (dk_at dksX9_drawn_4 22 rfl rfl)
theorem dX9_drawn_118 : decode cX9_drawn 118 = .ok (.iadd, 1) := dk_96 (dk_at dksX9_drawn_4 23 rfl rfl)
theorem dX9_drawn_119 : decode cX9_drawn 119 = .ok (.iaload, 1) := dk_46 (dk_at dksX9_drawn_5 0 rfl rfl)
theorem dX9_drawn_120 : decode cX9_drawn 120 = .ok (.iastore, 1) := dk_79 (dk_at dksX9_drawn_5 1 rfl rfl)
theorem dX9_drawn_121 : decode cX9_drawn 121 = .ok (.iinc 3 1, 3) := dk_132 3 1 (dk_at dksX9_drawn_5 2 rfl rfl)
theorem dX9_drawn_124 : decode cX9_drawn 124 = .ok (.goto (-48), 3) := dk_167 255 208 (dk_at dksX9_drawn_5 5 rfl rfl)
theorem dX9_drawn_127 : decode cX9_drawn 127 = .ok (.iconst 0, 1) := dk_3 (dk_at dksX9_drawn_5 8 rfl rfl)
theorem dX9_drawn_128 : decode cX9_drawn 128 = .ok (.istore_n 3, 1) := dk_62 (dk_at dksX9_drawn_5 9 rfl rfl)
theorem dX9_drawn_129 : decode cX9_drawn 129 = .ok (.iload_n 3, 1) := dk_29 (dk_at dksX9_drawn_5 10 rfl rfl)
theorem dX9_drawn_130 : decode cX9_drawn 130 = .ok (.aload_n 0, 1) := dk_42 (dk_at dksX9_drawn_5 11 rfl rfl)
theorem dX9_drawn_131 : decode cX9_drawn 131 = .ok (.getfield 13, 3) := dk_180 0 13 (dk_at dksX9_drawn_5 12 rfl rfl)
theorem dX9_drawn_134 : decode cX9_drawn 134 = .ok (.iconst 0, 1) := dk_3 (dk_at dksX9_drawn_5 15 rfl rfl)
theorem dX9_drawn_135 : decode cX9_drawn 135 = .ok (.iaload, 1) := dk_46 (dk_at dksX9_drawn_5 16 rfl rfl)
theorem dX9_drawn_136 : decode cX9_drawn 136 = .ok (.if_icmp .ge 20, 3) := dk_162 0 20 (dk_at dksX9_drawn_5 17 rfl rfl)
theorem dX9_drawn_139 : decode cX9_drawn 139 = .ok (.aload_n 1, 1) := dk_43 (dk_at dksX9_drawn_5 20 rfl rfl)
theorem dX9_drawn_140 : decode cX9_drawn 140 = .ok (.iconst 2, 1) := dk_5 (dk_at dksX9_drawn_5 21 rfl rfl)
theorem dX9_drawn_141 : decode cX9_drawn 141 = .ok (.iload_n 3, 1) := dk_29 (dk_at dksX9_drawn_5 22 rfl rfl)
theorem dX9_drawn_142 : decode cX9_drawn 142 = .ok (.iadd, 1) := dk_96 (dk_at dksX9_drawn_5 23 rfl rfl)
theorem dX9_drawn_143 : decode cX9_drawn 143 = .ok (.aload_n 0, 1) := dk_42 (dk_at dksX9_drawn_6 0 rfl rfl)
theorem dX9_drawn_144 : decode cX9_drawn 144 = .ok (.getfield 65, 3) := dk_180 0 65 (dk_at dksX9_drawn_6 1 rfl rfl)
theorem dX9_drawn_147 : decode cX9_drawn 147 = .ok (.iload_n 3, 1) := dk_29 (dk_at dksX9_drawn_6 4 rfl rfl)
theorem dX9_drawn_148 : decode cX9_drawn 148 = .ok (.iaload, 1) := dk_46 (dk_at dksX9_drawn_6 5 rfl rfl)
theorem dX9_drawn_149 : decode cX9_drawn 149 = .ok (.iastore, 1) := dk_79 (dk_at dksX9_drawn_6 6 rfl rfl)
theorem dX9_drawn_150 : decode cX9_drawn 150 = .ok (.iinc 3 1, 3) := dk_132 3 1 (dk_at dksX9_drawn_6 7 rfl rfl)
theorem dX9_drawn_153 : decode cX9_drawn 153 = .ok (.goto (-24), 3) := dk_167 255 232 (dk_at dksX9_drawn_6 10 rfl rfl)
theorem dX9_drawn_156 : decode cX9_drawn 156 = .ok (.aload_n 1, 1) := dk_43 (dk_at dksX9_drawn_6 13 rfl rfl)
theorem dX9_drawn_157 : decode cX9_drawn 157 = .ok (.iconst 0, 1) := dk_3 (dk_at dksX9_drawn_6 14 rfl rfl)
theorem dX9_drawn_158 : decode cX9_drawn 158 = .ok (.dup2, 1) := dk_92 (dk_at dksX9_drawn_6 15 rfl rfl)
theorem dX9_drawn_159 : decode cX9_drawn 159 = .ok (.iaload, 1) := dk_46 (dk_at dksX9_drawn_6 16 rfl rfl)
theorem dX9_drawn_160 : decode cX9_drawn 160 = .ok (.iconst 1, 1) := dk_4 (dk_at dksX9_drawn_6 17 rfl rfl)
theorem dX9_drawn_161 : decode cX9_drawn 161 = .ok (.iadd, 1) := dk_96 (dk_at dksX9_drawn_6 18 rfl rfl)
theorem dX9_drawn_162 : decode cX9_drawn 162 = .ok (.iastore, 1) := dk_79 (dk_at dksX9_drawn_6 19 rfl rfl)
theorem dX9_drawn_163 : decode cX9_drawn 163 = .ok (.aload_n 0, 1) := dk_42 (dk_at dksX9_drawn_6 20 rfl rfl)
theorem dX9_drawn_164 : decode cX9_drawn 164 = .ok (.aload_n 1, 1) := dk_43 (dk_at dksX9_drawn_6 21 rfl rfl)
theorem dX9_drawn_165 : decode cX9_drawn 165 = .ok (.invokevirtual 152, 3) := dk_182 0 152 (dk_at dksX9_drawn_7 0 rfl rfl)
theorem dX9_drawn_168 : decode cX9_drawn 168 = .ok (.ireturn, 1) := dk_172 (dk_at dksX9_drawn_7 3 rfl rfl)
abbrev cX9_draws : ByteArray := prog_13_method_24_code
def yX9_draws : MethodName := ⟨RX9, "draws", "(I)V"⟩
def dkwX9_draws_5 : List UInt8 := [167, 255, 141, 177]
abbrev dktX9_draws_5 : List UInt8 := dkwX9_draws_5 ++ []
def dkwX9_draws_4 : List UInt8 := [132, 7, 1, 167, 255, 218, 42, 180, 0, 62, 29, 21, 7, 79, 28, 4, 21, 7, 120, 128, 61, 132, 3, 1]
abbrev dktX9_draws_4 : List UInt8 := dkwX9_draws_4 ++ dktX9_draws_5
def dkwX9_draws_3 : List UInt8 := [158, 0, 29, 21, 6, 28, 21, 7, 122, 4, 126, 4, 160, 0, 7, 3, 167, 0, 4, 4, 100, 54, 6]
abbrev dktX9_draws_3 : List UInt8 := dkwX9_draws_3 ++ dktX9_draws_4
def dkwX9_draws_2 : List UInt8 := [3, 46, 29, 100, 133, 113, 136, 54, 6, 3, 54, 7, 28, 21, 7, 122, 4, 126, 4, 159, 0, 8, 21, 6]
abbrev dktX9_draws_2 : List UInt8 := dkwX9_draws_2 ++ dktX9_draws_3
def dkwX9_draws_1 : List UInt8 := [133, 105, 97, 10, 97, 55, 4, 22, 4, 22, 4, 105, 20, 0, 145, 113, 20, 0, 147, 109, 42, 180, 0, 13]
abbrev dktX9_draws_1 : List UInt8 := dkwX9_draws_1 ++ dktX9_draws_2
def dkwX9_draws_0 : List UInt8 := [3, 61, 3, 62, 29, 42, 180, 0, 13, 3, 46, 162, 0, 111, 20, 0, 141, 27, 133, 105, 20, 0, 143, 29]
abbrev dktX9_draws_0 : List UInt8 := dkwX9_draws_0 ++ dktX9_draws_1
theorem dksX9_draws_0 : cX9_draws.data.toList.drop 0 = dktX9_draws_0 := by decide +kernel
theorem dksX9_draws_1 : cX9_draws.data.toList.drop 24 = dktX9_draws_1 := dk_seg dksX9_draws_0 24 rfl rfl
theorem dksX9_draws_2 : cX9_draws.data.toList.drop 48 = dktX9_draws_2 := dk_seg dksX9_draws_1 24 rfl rfl
theorem dksX9_draws_3 : cX9_draws.data.toList.drop 72 = dktX9_draws_3 := dk_seg dksX9_draws_2 24 rfl rfl
theorem dksX9_draws_4 : cX9_draws.data.toList.drop 95 = dktX9_draws_4 := dk_seg dksX9_draws_3 23 rfl rfl
theorem dksX9_draws_5 : cX9_draws.data.toList.drop 119 = dktX9_draws_5 := dk_seg dksX9_draws_4 24 rfl rfl
theorem dX9_draws_0 : decode cX9_draws 0 = .ok (.iconst 0, 1) := dk_3 (dk_at dksX9_draws_0 0 rfl rfl)
theorem dX9_draws_1 : decode cX9_draws 1 = .ok (.istore_n 2, 1) := dk_61 (dk_at dksX9_draws_0 1 rfl rfl)
theorem dX9_draws_2 : decode cX9_draws 2 = .ok (.iconst 0, 1) := dk_3 (dk_at dksX9_draws_0 2 rfl rfl)
theorem dX9_draws_3 : decode cX9_draws 3 = .ok (.istore_n 3, 1) := dk_62 (dk_at dksX9_draws_0 3 rfl rfl)
theorem dX9_draws_4 : decode cX9_draws 4 = .ok (.iload_n 3, 1) := dk_29 (dk_at dksX9_draws_0 4 rfl rfl)
theorem dX9_draws_5 : decode cX9_draws 5 = .ok (.aload_n 0, 1) := dk_42 (dk_at dksX9_draws_0 5 rfl rfl)
theorem dX9_draws_6 : decode cX9_draws 6 = .ok (.getfield 13, 3) := dk_180 0 13 (dk_at dksX9_draws_0 6 rfl rfl)
theorem dX9_draws_9 : decode cX9_draws 9 = .ok (.iconst 0, 1) := dk_3 (dk_at dksX9_draws_0 9 rfl rfl)
theorem dX9_draws_10 : decode cX9_draws 10 = .ok (.iaload, 1) := dk_46 (dk_at dksX9_draws_0 10 rfl rfl)
theorem dX9_draws_11 : decode cX9_draws 11 = .ok (.if_icmp .ge 111, 3) := dk_162 0 111 (dk_at dksX9_draws_0 11 rfl rfl)
theorem dX9_draws_14 : decode cX9_draws 14 = .ok (.ldc2_w 141, 3) := dk_20 0 141 (dk_at dksX9_draws_0 14 rfl rfl)
theorem dX9_draws_17 : decode cX9_draws 17 = .ok (.iload_n 1, 1) := dk_27 (dk_at dksX9_draws_0 17 rfl rfl)
theorem dX9_draws_18 : decode cX9_draws 18 = .ok (.i2l, 1) := dk_133 (dk_at dksX9_draws_0 18 rfl rfl)
theorem dX9_draws_19 : decode cX9_draws 19 = .ok (.lmul, 1) := dk_105 (dk_at dksX9_draws_0 19 rfl rfl)
theorem dX9_draws_20 : decode cX9_draws 20 = .ok (.ldc2_w 143, 3) := dk_20 0 143 (dk_at dksX9_draws_0 20 rfl rfl)
theorem dX9_draws_23 : decode cX9_draws 23 = .ok (.iload_n 3, 1) := dk_29 (dk_at dksX9_draws_0 23 rfl rfl)
theorem dX9_draws_24 : decode cX9_draws 24 = .ok (.i2l, 1) := dk_133 (dk_at dksX9_draws_1 0 rfl rfl)
theorem dX9_draws_25 : decode cX9_draws 25 = .ok (.lmul, 1) := dk_105 (dk_at dksX9_draws_1 1 rfl rfl)
theorem dX9_draws_26 : decode cX9_draws 26 = .ok (.ladd, 1) := dk_97 (dk_at dksX9_draws_1 2 rfl rfl)
theorem dX9_draws_27 : decode cX9_draws 27 = .ok (.lconst 1, 1) := dk_10 (dk_at dksX9_draws_1 3 rfl rfl)
theorem dX9_draws_28 : decode cX9_draws 28 = .ok (.ladd, 1) := dk_97 (dk_at dksX9_draws_1 4 rfl rfl)
theorem dX9_draws_29 : decode cX9_draws 29 = .ok (.lstore 4, 2) := dk_55 4 (dk_at dksX9_draws_1 5 rfl rfl)
theorem dX9_draws_31 : decode cX9_draws 31 = .ok (.lload 4, 2) := dk_22 4 (dk_at dksX9_draws_1 7 rfl rfl)
theorem dX9_draws_33 : decode cX9_draws 33 = .ok (.lload 4, 2) := dk_22 4 (dk_at dksX9_draws_1 9 rfl rfl)
theorem dX9_draws_35 : decode cX9_draws 35 = .ok (.lmul, 1) := dk_105 (dk_at dksX9_draws_1 11 rfl rfl)
theorem dX9_draws_36 : decode cX9_draws 36 = .ok (.ldc2_w 145, 3) := dk_20 0 145 (dk_at dksX9_draws_1 12 rfl rfl)
theorem dX9_draws_39 : decode cX9_draws 39 = .ok (.lrem, 1) := dk_113 (dk_at dksX9_draws_1 15 rfl rfl)
theorem dX9_draws_40 : decode cX9_draws 40 = .ok (.ldc2_w 147, 3) := dk_20 0 147 (dk_at dksX9_draws_1 16 rfl rfl)
theorem dX9_draws_43 : decode cX9_draws 43 = .ok (.ldiv, 1) := dk_109 (dk_at dksX9_draws_1 19 rfl rfl)
theorem dX9_draws_44 : decode cX9_draws 44 = .ok (.aload_n 0, 1) := dk_42 (dk_at dksX9_draws_1 20 rfl rfl)
theorem dX9_draws_45 : decode cX9_draws 45 = .ok (.getfield 13, 3) := dk_180 0 13 (dk_at dksX9_draws_1 21 rfl rfl)
theorem dX9_draws_48 : decode cX9_draws 48 = .ok (.iconst 0, 1) := dk_3 (dk_at dksX9_draws_2 0 rfl rfl)
theorem dX9_draws_49 : decode cX9_draws 49 = .ok (.iaload, 1) := dk_46 (dk_at dksX9_draws_2 1 rfl rfl)
theorem dX9_draws_50 : decode cX9_draws 50 = .ok (.iload_n 3, 1) := dk_29 (dk_at dksX9_draws_2 2 rfl rfl)
theorem dX9_draws_51 : decode cX9_draws 51 = .ok (.isub, 1) := dk_100 (dk_at dksX9_draws_2 3 rfl rfl)
theorem dX9_draws_52 : decode cX9_draws 52 = .ok (.i2l, 1) := dk_133 (dk_at dksX9_draws_2 4 rfl rfl)
theorem dX9_draws_53 : decode cX9_draws 53 = .ok (.lrem, 1) := dk_113 (dk_at dksX9_draws_2 5 rfl rfl)
theorem dX9_draws_54 : decode cX9_draws 54 = .ok (.l2i, 1) := dk_136 (dk_at dksX9_draws_2 6 rfl rfl)
theorem dX9_draws_55 : decode cX9_draws 55 = .ok (.istore 6, 2) := dk_54 6 (dk_at dksX9_draws_2 7 rfl rfl)
theorem dX9_draws_57 : decode cX9_draws 57 = .ok (.iconst 0, 1) := dk_3 (dk_at dksX9_draws_2 9 rfl rfl)
theorem dX9_draws_58 : decode cX9_draws 58 = .ok (.istore 7, 2) := dk_54 7 (dk_at dksX9_draws_2 10 rfl rfl)
theorem dX9_draws_60 : decode cX9_draws 60 = .ok (.iload_n 2, 1) := dk_28 (dk_at dksX9_draws_2 12 rfl rfl)
theorem dX9_draws_61 : decode cX9_draws 61 = .ok (.iload 7, 2) := dk_21 7 (dk_at dksX9_draws_2 13 rfl rfl)
theorem dX9_draws_63 : decode cX9_draws 63 = .ok (.ishr, 1) := dk_122 (dk_at dksX9_draws_2 15 rfl rfl)
theorem dX9_draws_64 : decode cX9_draws 64 = .ok (.iconst 1, 1) := dk_4 (dk_at dksX9_draws_2 16 rfl rfl)
theorem dX9_draws_65 : decode cX9_draws 65 = .ok (.iand, 1) := dk_126 (dk_at dksX9_draws_2 17 rfl rfl)
theorem dX9_draws_66 : decode cX9_draws 66 = .ok (.iconst 1, 1) := dk_4 (dk_at dksX9_draws_2 18 rfl rfl)
theorem dX9_draws_67 : decode cX9_draws 67 = .ok (.if_icmp .eq 8, 3) := dk_159 0 8 (dk_at dksX9_draws_2 19 rfl rfl)
theorem dX9_draws_70 : decode cX9_draws 70 = .ok (.iload 6, 2) := dk_21 6 (dk_at dksX9_draws_2 22 rfl rfl)
theorem dX9_draws_72 : decode cX9_draws 72 = .ok (.ifCond .le 29, 3) := dk_158 0 29 (dk_at dksX9_draws_3 0 rfl rfl)
theorem dX9_draws_75 : decode cX9_draws 75 = .ok (.iload 6, 2) := dk_21 6 (dk_at dksX9_draws_3 3 rfl rfl)
theorem dX9_draws_77 : decode cX9_draws 77 = .ok (.iload_n 2, 1) := dk_28 (dk_at dksX9_draws_3 5 rfl rfl)
theorem dX9_draws_78 : decode cX9_draws 78 = .ok (.iload 7, 2) := dk_21 7 (dk_at dksX9_draws_3 6 rfl rfl)
theorem dX9_draws_80 : decode cX9_draws 80 = .ok (.ishr, 1) := dk_122 (dk_at dksX9_draws_3 8 rfl rfl)
theorem dX9_draws_81 : decode cX9_draws 81 = .ok (.iconst 1, 1) := dk_4 (dk_at dksX9_draws_3 9 rfl rfl)
theorem dX9_draws_82 : decode cX9_draws 82 = .ok (.iand, 1) := dk_126 (dk_at dksX9_draws_3 10 rfl rfl)
theorem dX9_draws_83 : decode cX9_draws 83 = .ok (.iconst 1, 1) := dk_4 (dk_at dksX9_draws_3 11 rfl rfl)
theorem dX9_draws_84 : decode cX9_draws 84 = .ok (.if_icmp .ne 7, 3) := dk_160 0 7 (dk_at dksX9_draws_3 12 rfl rfl)
theorem dX9_draws_87 : decode cX9_draws 87 = .ok (.iconst 0, 1) := dk_3 (dk_at dksX9_draws_3 15 rfl rfl)
theorem dX9_draws_88 : decode cX9_draws 88 = .ok (.goto 4, 3) := dk_167 0 4 (dk_at dksX9_draws_3 16 rfl rfl)
theorem dX9_draws_91 : decode cX9_draws 91 = .ok (.iconst 1, 1) := dk_4 (dk_at dksX9_draws_3 19 rfl rfl)
theorem dX9_draws_92 : decode cX9_draws 92 = .ok (.isub, 1) := dk_100 (dk_at dksX9_draws_3 20 rfl rfl)
theorem dX9_draws_93 : decode cX9_draws 93 = .ok (.istore 6, 2) := dk_54 6 (dk_at dksX9_draws_3 21 rfl rfl)
theorem dX9_draws_95 : decode cX9_draws 95 = .ok (.iinc 7 1, 3) := dk_132 7 1 (dk_at dksX9_draws_4 0 rfl rfl)
theorem dX9_draws_98 : decode cX9_draws 98 = .ok (.goto (-38), 3) := dk_167 255 218 (dk_at dksX9_draws_4 3 rfl rfl)
theorem dX9_draws_101 : decode cX9_draws 101 = .ok (.aload_n 0, 1) := dk_42 (dk_at dksX9_draws_4 6 rfl rfl)
theorem dX9_draws_102 : decode cX9_draws 102 = .ok (.getfield 62, 3) := dk_180 0 62 (dk_at dksX9_draws_4 7 rfl rfl)
theorem dX9_draws_105 : decode cX9_draws 105 = .ok (.iload_n 3, 1) := dk_29 (dk_at dksX9_draws_4 10 rfl rfl)
theorem dX9_draws_106 : decode cX9_draws 106 = .ok (.iload 7, 2) := dk_21 7 (dk_at dksX9_draws_4 11 rfl rfl)
theorem dX9_draws_108 : decode cX9_draws 108 = .ok (.iastore, 1) := dk_79 (dk_at dksX9_draws_4 13 rfl rfl)
theorem dX9_draws_109 : decode cX9_draws 109 = .ok (.iload_n 2, 1) := dk_28 (dk_at dksX9_draws_4 14 rfl rfl)
theorem dX9_draws_110 : decode cX9_draws 110 = .ok (.iconst 1, 1) := dk_4 (dk_at dksX9_draws_4 15 rfl rfl)
theorem dX9_draws_111 : decode cX9_draws 111 = .ok (.iload 7, 2) := dk_21 7 (dk_at dksX9_draws_4 16 rfl rfl)
theorem dX9_draws_113 : decode cX9_draws 113 = .ok (.ishl, 1) := dk_120 (dk_at dksX9_draws_4 18 rfl rfl)
theorem dX9_draws_114 : decode cX9_draws 114 = .ok (.ior, 1) := dk_128 (dk_at dksX9_draws_4 19 rfl rfl)
theorem dX9_draws_115 : decode cX9_draws 115 = .ok (.istore_n 2, 1) := dk_61 (dk_at dksX9_draws_4 20 rfl rfl)
theorem dX9_draws_116 : decode cX9_draws 116 = .ok (.iinc 3 1, 3) := dk_132 3 1 (dk_at dksX9_draws_4 21 rfl rfl)
theorem dX9_draws_119 : decode cX9_draws 119 = .ok (.goto (-115), 3) := dk_167 255 141 (dk_at dksX9_draws_5 0 rfl rfl)
theorem dX9_draws_122 : decode cX9_draws 122 = .ok (.return_, 1) := dk_177 (dk_at dksX9_draws_5 3 rfl rfl)
abbrev cX9_cuts : ByteArray := prog_13_method_25_code
def yX9_cuts : MethodName := ⟨RX9, "cuts", "([I)I"⟩
def dkwX9_cuts_2 : List UInt8 := [79, 132, 2, 1, 132, 3, 1, 167, 255, 205, 43, 4, 92, 46, 28, 96, 79, 28, 172]
abbrev dktX9_cuts_2 : List UInt8 := dkwX9_cuts_2 ++ []
def dkwX9_cuts_1 : List UInt8 := [43, 5, 29, 96, 46, 46, 162, 0, 22, 43, 16, 8, 29, 96, 42, 180, 0, 19, 43, 5, 29, 96, 46, 46]
abbrev dktX9_cuts_1 : List UInt8 := dkwX9_cuts_1 ++ dktX9_cuts_2
def dkwX9_cuts_0 : List UInt8 := [3, 61, 3, 62, 29, 42, 180, 0, 13, 3, 46, 162, 0, 47, 43, 16, 8, 29, 96, 46, 42, 180, 0, 19]
abbrev dktX9_cuts_0 : List UInt8 := dkwX9_cuts_0 ++ dktX9_cuts_1
theorem dksX9_cuts_0 : cX9_cuts.data.toList.drop 0 = dktX9_cuts_0 := by decide +kernel
theorem dksX9_cuts_1 : cX9_cuts.data.toList.drop 24 = dktX9_cuts_1 := dk_seg dksX9_cuts_0 24 rfl rfl
theorem dksX9_cuts_2 : cX9_cuts.data.toList.drop 48 = dktX9_cuts_2 := dk_seg dksX9_cuts_1 24 rfl rfl
theorem dX9_cuts_0 : decode cX9_cuts 0 = .ok (.iconst 0, 1) := dk_3 (dk_at dksX9_cuts_0 0 rfl rfl)
theorem dX9_cuts_1 : decode cX9_cuts 1 = .ok (.istore_n 2, 1) := dk_61 (dk_at dksX9_cuts_0 1 rfl rfl)
theorem dX9_cuts_2 : decode cX9_cuts 2 = .ok (.iconst 0, 1) := dk_3 (dk_at dksX9_cuts_0 2 rfl rfl)
theorem dX9_cuts_3 : decode cX9_cuts 3 = .ok (.istore_n 3, 1) := dk_62 (dk_at dksX9_cuts_0 3 rfl rfl)
theorem dX9_cuts_4 : decode cX9_cuts 4 = .ok (.iload_n 3, 1) := dk_29 (dk_at dksX9_cuts_0 4 rfl rfl)
theorem dX9_cuts_5 : decode cX9_cuts 5 = .ok (.aload_n 0, 1) := dk_42 (dk_at dksX9_cuts_0 5 rfl rfl)
theorem dX9_cuts_6 : decode cX9_cuts 6 = .ok (.getfield 13, 3) := dk_180 0 13 (dk_at dksX9_cuts_0 6 rfl rfl)
theorem dX9_cuts_9 : decode cX9_cuts 9 = .ok (.iconst 0, 1) := dk_3 (dk_at dksX9_cuts_0 9 rfl rfl)
theorem dX9_cuts_10 : decode cX9_cuts 10 = .ok (.iaload, 1) := dk_46 (dk_at dksX9_cuts_0 10 rfl rfl)
theorem dX9_cuts_11 : decode cX9_cuts 11 = .ok (.if_icmp .ge 47, 3) := dk_162 0 47 (dk_at dksX9_cuts_0 11 rfl rfl)
theorem dX9_cuts_14 : decode cX9_cuts 14 = .ok (.aload_n 1, 1) := dk_43 (dk_at dksX9_cuts_0 14 rfl rfl)
theorem dX9_cuts_15 : decode cX9_cuts 15 = .ok (.bipush 8, 2) := dk_16 8 (dk_at dksX9_cuts_0 15 rfl rfl)
theorem dX9_cuts_17 : decode cX9_cuts 17 = .ok (.iload_n 3, 1) := dk_29 (dk_at dksX9_cuts_0 17 rfl rfl)
theorem dX9_cuts_18 : decode cX9_cuts 18 = .ok (.iadd, 1) := dk_96 (dk_at dksX9_cuts_0 18 rfl rfl)
theorem dX9_cuts_19 : decode cX9_cuts 19 = .ok (.iaload, 1) := dk_46 (dk_at dksX9_cuts_0 19 rfl rfl)
theorem dX9_cuts_20 : decode cX9_cuts 20 = .ok (.aload_n 0, 1) := dk_42 (dk_at dksX9_cuts_0 20 rfl rfl)
theorem dX9_cuts_21 : decode cX9_cuts 21 = .ok (.getfield 19, 3) := dk_180 0 19 (dk_at dksX9_cuts_0 21 rfl rfl)
theorem dX9_cuts_24 : decode cX9_cuts 24 = .ok (.aload_n 1, 1) := dk_43 (dk_at dksX9_cuts_1 0 rfl rfl)
theorem dX9_cuts_25 : decode cX9_cuts 25 = .ok (.iconst 2, 1) := dk_5 (dk_at dksX9_cuts_1 1 rfl rfl)
theorem dX9_cuts_26 : decode cX9_cuts 26 = .ok (.iload_n 3, 1) := dk_29 (dk_at dksX9_cuts_1 2 rfl rfl)
theorem dX9_cuts_27 : decode cX9_cuts 27 = .ok (.iadd, 1) := dk_96 (dk_at dksX9_cuts_1 3 rfl rfl)
theorem dX9_cuts_28 : decode cX9_cuts 28 = .ok (.iaload, 1) := dk_46 (dk_at dksX9_cuts_1 4 rfl rfl)
theorem dX9_cuts_29 : decode cX9_cuts 29 = .ok (.iaload, 1) := dk_46 (dk_at dksX9_cuts_1 5 rfl rfl)
theorem dX9_cuts_30 : decode cX9_cuts 30 = .ok (.if_icmp .ge 22, 3) := dk_162 0 22 (dk_at dksX9_cuts_1 6 rfl rfl)
theorem dX9_cuts_33 : decode cX9_cuts 33 = .ok (.aload_n 1, 1) := dk_43 (dk_at dksX9_cuts_1 9 rfl rfl)
theorem dX9_cuts_34 : decode cX9_cuts 34 = .ok (.bipush 8, 2) := dk_16 8 (dk_at dksX9_cuts_1 10 rfl rfl)
theorem dX9_cuts_36 : decode cX9_cuts 36 = .ok (.iload_n 3, 1) := dk_29 (dk_at dksX9_cuts_1 12 rfl rfl)
theorem dX9_cuts_37 : decode cX9_cuts 37 = .ok (.iadd, 1) := dk_96 (dk_at dksX9_cuts_1 13 rfl rfl)
theorem dX9_cuts_38 : decode cX9_cuts 38 = .ok (.aload_n 0, 1) := dk_42 (dk_at dksX9_cuts_1 14 rfl rfl)
theorem dX9_cuts_39 : decode cX9_cuts 39 = .ok (.getfield 19, 3) := dk_180 0 19 (dk_at dksX9_cuts_1 15 rfl rfl)
theorem dX9_cuts_42 : decode cX9_cuts 42 = .ok (.aload_n 1, 1) := dk_43 (dk_at dksX9_cuts_1 18 rfl rfl)
theorem dX9_cuts_43 : decode cX9_cuts 43 = .ok (.iconst 2, 1) := dk_5 (dk_at dksX9_cuts_1 19 rfl rfl)
theorem dX9_cuts_44 : decode cX9_cuts 44 = .ok (.iload_n 3, 1) := dk_29 (dk_at dksX9_cuts_1 20 rfl rfl)
theorem dX9_cuts_45 : decode cX9_cuts 45 = .ok (.iadd, 1) := dk_96 (dk_at dksX9_cuts_1 21 rfl rfl)
theorem dX9_cuts_46 : decode cX9_cuts 46 = .ok (.iaload, 1) := dk_46 (dk_at dksX9_cuts_1 22 rfl rfl)
theorem dX9_cuts_47 : decode cX9_cuts 47 = .ok (.iaload, 1) := dk_46 (dk_at dksX9_cuts_1 23 rfl rfl)
theorem dX9_cuts_48 : decode cX9_cuts 48 = .ok (.iastore, 1) := dk_79 (dk_at dksX9_cuts_2 0 rfl rfl)
theorem dX9_cuts_49 : decode cX9_cuts 49 = .ok (.iinc 2 1, 3) := dk_132 2 1 (dk_at dksX9_cuts_2 1 rfl rfl)
theorem dX9_cuts_52 : decode cX9_cuts 52 = .ok (.iinc 3 1, 3) := dk_132 3 1 (dk_at dksX9_cuts_2 4 rfl rfl)
theorem dX9_cuts_55 : decode cX9_cuts 55 = .ok (.goto (-51), 3) := dk_167 255 205 (dk_at dksX9_cuts_2 7 rfl rfl)
theorem dX9_cuts_58 : decode cX9_cuts 58 = .ok (.aload_n 1, 1) := dk_43 (dk_at dksX9_cuts_2 10 rfl rfl)
theorem dX9_cuts_59 : decode cX9_cuts 59 = .ok (.iconst 1, 1) := dk_4 (dk_at dksX9_cuts_2 11 rfl rfl)
theorem dX9_cuts_60 : decode cX9_cuts 60 = .ok (.dup2, 1) := dk_92 (dk_at dksX9_cuts_2 12 rfl rfl)
theorem dX9_cuts_61 : decode cX9_cuts 61 = .ok (.iaload, 1) := dk_46 (dk_at dksX9_cuts_2 13 rfl rfl)
theorem dX9_cuts_62 : decode cX9_cuts 62 = .ok (.iload_n 2, 1) := dk_28 (dk_at dksX9_cuts_2 14 rfl rfl)
theorem dX9_cuts_63 : decode cX9_cuts 63 = .ok (.iadd, 1) := dk_96 (dk_at dksX9_cuts_2 15 rfl rfl)
theorem dX9_cuts_64 : decode cX9_cuts 64 = .ok (.iastore, 1) := dk_79 (dk_at dksX9_cuts_2 16 rfl rfl)
theorem dX9_cuts_65 : decode cX9_cuts 65 = .ok (.iload_n 2, 1) := dk_28 (dk_at dksX9_cuts_2 17 rfl rfl)
theorem dX9_cuts_66 : decode cX9_cuts 66 = .ok (.ireturn, 1) := dk_172 (dk_at dksX9_cuts_2 18 rfl rfl)
abbrev cX9_trades : ByteArray := prog_13_method_28_code
def yX9_trades : MethodName := ⟨RX9, "trades", "(II)I"⟩
def dkwX9_trades_3 : List UInt8 := [182, 0, 152, 172]
abbrev dktX9_trades_3 : List UInt8 := dkwX9_trades_3 ++ []
def dkwX9_trades_2 : List UInt8 := [96, 42, 180, 0, 40, 5, 28, 96, 46, 79, 42, 180, 0, 40, 5, 28, 96, 29, 79, 42, 42, 180, 0, 40]
abbrev dktX9_trades_2 : List UInt8 := dkwX9_trades_2 ++ dktX9_trades_3
def dkwX9_trades_1 : List UInt8 := [160, 0, 5, 2, 172, 42, 182, 0, 156, 42, 180, 0, 40, 5, 27, 96, 46, 62, 42, 180, 0, 40, 5, 27]
abbrev dktX9_trades_1 : List UInt8 := dkwX9_trades_1 ++ dktX9_trades_2
def dkwX9_trades_0 : List UInt8 := [42, 3, 181, 0, 68, 42, 27, 182, 0, 127, 153, 0, 16, 42, 28, 182, 0, 127, 153, 0, 8, 27, 28]
abbrev dktX9_trades_0 : List UInt8 := dkwX9_trades_0 ++ dktX9_trades_1
theorem dksX9_trades_0 : cX9_trades.data.toList.drop 0 = dktX9_trades_0 := by decide +kernel
theorem dksX9_trades_1 : cX9_trades.data.toList.drop 23 = dktX9_trades_1 := dk_seg dksX9_trades_0 23 rfl rfl
theorem dksX9_trades_2 : cX9_trades.data.toList.drop 47 = dktX9_trades_2 := dk_seg dksX9_trades_1 24 rfl rfl
theorem dksX9_trades_3 : cX9_trades.data.toList.drop 71 = dktX9_trades_3 := dk_seg dksX9_trades_2 24 rfl rfl
theorem dX9_trades_0 : decode cX9_trades 0 = .ok (.aload_n 0, 1) := dk_42 (dk_at dksX9_trades_0 0 rfl rfl)
theorem dX9_trades_1 : decode cX9_trades 1 = .ok (.iconst 0, 1) := dk_3 (dk_at dksX9_trades_0 1 rfl rfl)
theorem dX9_trades_2 : decode cX9_trades 2 = .ok (.putfield 68, 3) := dk_181 0 68 (dk_at dksX9_trades_0 2 rfl rfl)
theorem dX9_trades_5 : decode cX9_trades 5 = .ok (.aload_n 0, 1) := dk_42 (dk_at dksX9_trades_0 5 rfl rfl)
theorem dX9_trades_6 : decode cX9_trades 6 = .ok (.iload_n 1, 1) := dk_27 (dk_at dksX9_trades_0 6 rfl rfl)
theorem dX9_trades_7 : decode cX9_trades 7 = .ok (.invokevirtual 127, 3) := dk_182 0 127 (dk_at dksX9_trades_0 7 rfl rfl)
theorem dX9_trades_10 : decode cX9_trades 10 = .ok (.ifCond .eq 16, 3) := dk_153 0 16 (dk_at dksX9_trades_0 10 rfl rfl)
theorem dX9_trades_13 : decode cX9_trades 13 = .ok (.aload_n 0, 1) := dk_42 (dk_at dksX9_trades_0 13 rfl rfl)
theorem dX9_trades_14 : decode cX9_trades 14 = .ok (.iload_n 2, 1) := dk_28 (dk_at dksX9_trades_0 14 rfl rfl)
theorem dX9_trades_15 : decode cX9_trades 15 = .ok (.invokevirtual 127, 3) := dk_182 0 127 (dk_at dksX9_trades_0 15 rfl rfl)
theorem dX9_trades_18 : decode cX9_trades 18 = .ok (.ifCond .eq 8, 3) := dk_153 0 8 (dk_at dksX9_trades_0 18 rfl rfl)
theorem dX9_trades_21 : decode cX9_trades 21 = .ok (.iload_n 1, 1) := dk_27 (dk_at dksX9_trades_0 21 rfl rfl)
theorem dX9_trades_22 : decode cX9_trades 22 = .ok (.iload_n 2, 1) := dk_28 (dk_at dksX9_trades_0 22 rfl rfl)
theorem dX9_trades_23 : decode cX9_trades 23 = .ok (.if_icmp .ne 5, 3) := dk_160 0 5 (dk_at dksX9_trades_1 0 rfl rfl)
theorem dX9_trades_26 : decode cX9_trades 26 = .ok (.iconst (-1), 1) := dk_2 (dk_at dksX9_trades_1 3 rfl rfl)
theorem dX9_trades_27 : decode cX9_trades 27 = .ok (.ireturn, 1) := dk_172 (dk_at dksX9_trades_1 4 rfl rfl)
theorem dX9_trades_28 : decode cX9_trades 28 = .ok (.aload_n 0, 1) := dk_42 (dk_at dksX9_trades_1 5 rfl rfl)
theorem dX9_trades_29 : decode cX9_trades 29 = .ok (.invokevirtual 156, 3) := dk_182 0 156 (dk_at dksX9_trades_1 6 rfl rfl)
theorem dX9_trades_32 : decode cX9_trades 32 = .ok (.aload_n 0, 1) := dk_42 (dk_at dksX9_trades_1 9 rfl rfl)
theorem dX9_trades_33 : decode cX9_trades 33 = .ok (.getfield 40, 3) := dk_180 0 40 (dk_at dksX9_trades_1 10 rfl rfl)
theorem dX9_trades_36 : decode cX9_trades 36 = .ok (.iconst 2, 1) := dk_5 (dk_at dksX9_trades_1 13 rfl rfl)
theorem dX9_trades_37 : decode cX9_trades 37 = .ok (.iload_n 1, 1) := dk_27 (dk_at dksX9_trades_1 14 rfl rfl)
theorem dX9_trades_38 : decode cX9_trades 38 = .ok (.iadd, 1) := dk_96 (dk_at dksX9_trades_1 15 rfl rfl)
theorem dX9_trades_39 : decode cX9_trades 39 = .ok (.iaload, 1) := dk_46 (dk_at dksX9_trades_1 16 rfl rfl)
theorem dX9_trades_40 : decode cX9_trades 40 = .ok (.istore_n 3, 1) := dk_62 (dk_at dksX9_trades_1 17 rfl rfl)
theorem dX9_trades_41 : decode cX9_trades 41 = .ok (.aload_n 0, 1) := dk_42 (dk_at dksX9_trades_1 18 rfl rfl)
theorem dX9_trades_42 : decode cX9_trades 42 = .ok (.getfield 40, 3) := dk_180 0 40 (dk_at dksX9_trades_1 19 rfl rfl)
theorem dX9_trades_45 : decode cX9_trades 45 = .ok (.iconst 2, 1) := dk_5 (dk_at dksX9_trades_1 22 rfl rfl)
theorem dX9_trades_46 : decode cX9_trades 46 = .ok (.iload_n 1, 1) := dk_27 (dk_at dksX9_trades_1 23 rfl rfl)
theorem dX9_trades_47 : decode cX9_trades 47 = .ok (.iadd, 1) := dk_96 (dk_at dksX9_trades_2 0 rfl rfl)
theorem dX9_trades_48 : decode cX9_trades 48 = .ok (.aload_n 0, 1) := dk_42 (dk_at dksX9_trades_2 1 rfl rfl)
theorem dX9_trades_49 : decode cX9_trades 49 = .ok (.getfield 40, 3) := dk_180 0 40 (dk_at dksX9_trades_2 2 rfl rfl)
theorem dX9_trades_52 : decode cX9_trades 52 = .ok (.iconst 2, 1) := dk_5 (dk_at dksX9_trades_2 5 rfl rfl)
theorem dX9_trades_53 : decode cX9_trades 53 = .ok (.iload_n 2, 1) := dk_28 (dk_at dksX9_trades_2 6 rfl rfl)
theorem dX9_trades_54 : decode cX9_trades 54 = .ok (.iadd, 1) := dk_96 (dk_at dksX9_trades_2 7 rfl rfl)
theorem dX9_trades_55 : decode cX9_trades 55 = .ok (.iaload, 1) := dk_46 (dk_at dksX9_trades_2 8 rfl rfl)
theorem dX9_trades_56 : decode cX9_trades 56 = .ok (.iastore, 1) := dk_79 (dk_at dksX9_trades_2 9 rfl rfl)
theorem dX9_trades_57 : decode cX9_trades 57 = .ok (.aload_n 0, 1) := dk_42 (dk_at dksX9_trades_2 10 rfl rfl)
theorem dX9_trades_58 : decode cX9_trades 58 = .ok (.getfield 40, 3) := dk_180 0 40 (dk_at dksX9_trades_2 11 rfl rfl)
theorem dX9_trades_61 : decode cX9_trades 61 = .ok (.iconst 2, 1) := dk_5 (dk_at dksX9_trades_2 14 rfl rfl)
theorem dX9_trades_62 : decode cX9_trades 62 = .ok (.iload_n 2, 1) := dk_28 (dk_at dksX9_trades_2 15 rfl rfl)
theorem dX9_trades_63 : decode cX9_trades 63 = .ok (.iadd, 1) := dk_96 (dk_at dksX9_trades_2 16 rfl rfl)
theorem dX9_trades_64 : decode cX9_trades 64 = .ok (.iload_n 3, 1) := dk_29 (dk_at dksX9_trades_2 17 rfl rfl)
theorem dX9_trades_65 : decode cX9_trades 65 = .ok (.iastore, 1) := dk_79 (dk_at dksX9_trades_2 18 rfl rfl)
theorem dX9_trades_66 : decode cX9_trades 66 = .ok (.aload_n 0, 1) := dk_42 (dk_at dksX9_trades_2 19 rfl rfl)
theorem dX9_trades_67 : decode cX9_trades 67 = .ok (.aload_n 0, 1) := dk_42 (dk_at dksX9_trades_2 20 rfl rfl)
theorem dX9_trades_68 : decode cX9_trades 68 = .ok (.getfield 40, 3) := dk_180 0 40 (dk_at dksX9_trades_2 21 rfl rfl)
theorem dX9_trades_71 : decode cX9_trades 71 = .ok (.invokevirtual 152, 3) := dk_182 0 152 (dk_at dksX9_trades_3 0 rfl rfl)
theorem dX9_trades_74 : decode cX9_trades 74 = .ok (.ireturn, 1) := dk_172 (dk_at dksX9_trades_3 3 rfl rfl)
abbrev cX9_widens : ByteArray := prog_13_method_29_code
def yX9_widens : MethodName := ⟨RX9, "widens", "(II)I"⟩
def dkwX9_widens_3 : List UInt8 := [172]
abbrev dktX9_widens_3 : List UInt8 := dkwX9_widens_3 ++ []
def dkwX9_widens_2 : List UInt8 := [182, 0, 156, 42, 180, 0, 40, 16, 8, 27, 96, 46, 62, 42, 180, 0, 40, 16, 8, 27, 96, 28, 79, 29]
abbrev dktX9_widens_2 : List UInt8 := dkwX9_widens_2 ++ dktX9_widens_3
def dkwX9_widens_1 : List UInt8 := [172, 42, 180, 0, 19, 42, 180, 0, 40, 5, 27, 96, 46, 46, 28, 164, 0, 6, 16, 254, 172, 42]
abbrev dktX9_widens_1 : List UInt8 := dkwX9_widens_1 ++ dktX9_widens_2
def dkwX9_widens_0 : List UInt8 := [42, 3, 181, 0, 68, 42, 27, 182, 0, 127, 153, 0, 13, 28, 4, 16, 99, 184, 0, 72, 154, 0, 5, 2]
abbrev dktX9_widens_0 : List UInt8 := dkwX9_widens_0 ++ dktX9_widens_1
theorem dksX9_widens_0 : cX9_widens.data.toList.drop 0 = dktX9_widens_0 := by decide +kernel
theorem dksX9_widens_1 : cX9_widens.data.toList.drop 24 = dktX9_widens_1 := dk_seg dksX9_widens_0 24 rfl rfl
theorem dksX9_widens_2 : cX9_widens.data.toList.drop 46 = dktX9_widens_2 := dk_seg dksX9_widens_1 22 rfl rfl
theorem dksX9_widens_3 : cX9_widens.data.toList.drop 70 = dktX9_widens_3 := dk_seg dksX9_widens_2 24 rfl rfl
theorem dX9_widens_0 : decode cX9_widens 0 = .ok (.aload_n 0, 1) := dk_42 (dk_at dksX9_widens_0 0 rfl rfl)
theorem dX9_widens_1 : decode cX9_widens 1 = .ok (.iconst 0, 1) := dk_3 (dk_at dksX9_widens_0 1 rfl rfl)
theorem dX9_widens_2 : decode cX9_widens 2 = .ok (.putfield 68, 3) := dk_181 0 68 (dk_at dksX9_widens_0 2 rfl rfl)
theorem dX9_widens_5 : decode cX9_widens 5 = .ok (.aload_n 0, 1) := dk_42 (dk_at dksX9_widens_0 5 rfl rfl)
theorem dX9_widens_6 : decode cX9_widens 6 = .ok (.iload_n 1, 1) := dk_27 (dk_at dksX9_widens_0 6 rfl rfl)
theorem dX9_widens_7 : decode cX9_widens 7 = .ok (.invokevirtual 127, 3) := dk_182 0 127 (dk_at dksX9_widens_0 7 rfl rfl)
theorem dX9_widens_10 : decode cX9_widens 10 = .ok (.ifCond .eq 13, 3) := dk_153 0 13 (dk_at dksX9_widens_0 10 rfl rfl)
theorem dX9_widens_13 : decode cX9_widens 13 = .ok (.iload_n 2, 1) := dk_28 (dk_at dksX9_widens_0 13 rfl rfl)
theorem dX9_widens_14 : decode cX9_widens 14 = .ok (.iconst 1, 1) := dk_4 (dk_at dksX9_widens_0 14 rfl rfl)
theorem dX9_widens_15 : decode cX9_widens 15 = .ok (.bipush 99, 2) := dk_16 99 (dk_at dksX9_widens_0 15 rfl rfl)
theorem dX9_widens_17 : decode cX9_widens 17 = .ok (.invokestatic 72, 3) := dk_184 0 72 (dk_at dksX9_widens_0 17 rfl rfl)
theorem dX9_widens_20 : decode cX9_widens 20 = .ok (.ifCond .ne 5, 3) := dk_154 0 5 (dk_at dksX9_widens_0 20 rfl rfl)
theorem dX9_widens_23 : decode cX9_widens 23 = .ok (.iconst (-1), 1) := dk_2 (dk_at dksX9_widens_0 23 rfl rfl)
theorem dX9_widens_24 : decode cX9_widens 24 = .ok (.ireturn, 1) := dk_172 (dk_at dksX9_widens_1 0 rfl rfl)
theorem dX9_widens_25 : decode cX9_widens 25 = .ok (.aload_n 0, 1) := dk_42 (dk_at dksX9_widens_1 1 rfl rfl)
theorem dX9_widens_26 : decode cX9_widens 26 = .ok (.getfield 19, 3) := dk_180 0 19 (dk_at dksX9_widens_1 2 rfl rfl)
theorem dX9_widens_29 : decode cX9_widens 29 = .ok (.aload_n 0, 1) := dk_42 (dk_at dksX9_widens_1 5 rfl rfl)
theorem dX9_widens_30 : decode cX9_widens 30 = .ok (.getfield 40, 3) := dk_180 0 40 (dk_at dksX9_widens_1 6 rfl rfl)
theorem dX9_widens_33 : decode cX9_widens 33 = .ok (.iconst 2, 1) := dk_5 (dk_at dksX9_widens_1 9 rfl rfl)
theorem dX9_widens_34 : decode cX9_widens 34 = .ok (.iload_n 1, 1) := dk_27 (dk_at dksX9_widens_1 10 rfl rfl)
theorem dX9_widens_35 : decode cX9_widens 35 = .ok (.iadd, 1) := dk_96 (dk_at dksX9_widens_1 11 rfl rfl)
theorem dX9_widens_36 : decode cX9_widens 36 = .ok (.iaload, 1) := dk_46 (dk_at dksX9_widens_1 12 rfl rfl)
theorem dX9_widens_37 : decode cX9_widens 37 = .ok (.iaload, 1) := dk_46 (dk_at dksX9_widens_1 13 rfl rfl)
theorem dX9_widens_38 : decode cX9_widens 38 = .ok (.iload_n 2, 1) := dk_28 (dk_at dksX9_widens_1 14 rfl rfl)
theorem dX9_widens_39 : decode cX9_widens 39 = .ok (.if_icmp .le 6, 3) := dk_164 0 6 (dk_at dksX9_widens_1 15 rfl rfl)
theorem dX9_widens_42 : decode cX9_widens 42 = .ok (.bipush (-2), 2) := dk_16 254 (dk_at dksX9_widens_1 18 rfl rfl)
theorem dX9_widens_44 : decode cX9_widens 44 = .ok (.ireturn, 1) := dk_172 (dk_at dksX9_widens_1 20 rfl rfl)
theorem dX9_widens_45 : decode cX9_widens 45 = .ok (.aload_n 0, 1) := dk_42 (dk_at dksX9_widens_1 21 rfl rfl)
theorem dX9_widens_46 : decode cX9_widens 46 = .ok (.invokevirtual 156, 3) := dk_182 0 156 (dk_at dksX9_widens_2 0 rfl rfl)
theorem dX9_widens_49 : decode cX9_widens 49 = .ok (.aload_n 0, 1) := dk_42 (dk_at dksX9_widens_2 3 rfl rfl)
theorem dX9_widens_50 : decode cX9_widens 50 = .ok (.getfield 40, 3) := dk_180 0 40 (dk_at dksX9_widens_2 4 rfl rfl)
theorem dX9_widens_53 : decode cX9_widens 53 = .ok (.bipush 8, 2) := dk_16 8 (dk_at dksX9_widens_2 7 rfl rfl)
theorem dX9_widens_55 : decode cX9_widens 55 = .ok (.iload_n 1, 1) := dk_27 (dk_at dksX9_widens_2 9 rfl rfl)
theorem dX9_widens_56 : decode cX9_widens 56 = .ok (.iadd, 1) := dk_96 (dk_at dksX9_widens_2 10 rfl rfl)
theorem dX9_widens_57 : decode cX9_widens 57 = .ok (.iaload, 1) := dk_46 (dk_at dksX9_widens_2 11 rfl rfl)
theorem dX9_widens_58 : decode cX9_widens 58 = .ok (.istore_n 3, 1) := dk_62 (dk_at dksX9_widens_2 12 rfl rfl)
theorem dX9_widens_59 : decode cX9_widens 59 = .ok (.aload_n 0, 1) := dk_42 (dk_at dksX9_widens_2 13 rfl rfl)
theorem dX9_widens_60 : decode cX9_widens 60 = .ok (.getfield 40, 3) := dk_180 0 40 (dk_at dksX9_widens_2 14 rfl rfl)
theorem dX9_widens_63 : decode cX9_widens 63 = .ok (.bipush 8, 2) := dk_16 8 (dk_at dksX9_widens_2 17 rfl rfl)
theorem dX9_widens_65 : decode cX9_widens 65 = .ok (.iload_n 1, 1) := dk_27 (dk_at dksX9_widens_2 19 rfl rfl)
theorem dX9_widens_66 : decode cX9_widens 66 = .ok (.iadd, 1) := dk_96 (dk_at dksX9_widens_2 20 rfl rfl)
theorem dX9_widens_67 : decode cX9_widens 67 = .ok (.iload_n 2, 1) := dk_28 (dk_at dksX9_widens_2 21 rfl rfl)
theorem dX9_widens_68 : decode cX9_widens 68 = .ok (.iastore, 1) := dk_79 (dk_at dksX9_widens_2 22 rfl rfl)
theorem dX9_widens_69 : decode cX9_widens 69 = .ok (.iload_n 3, 1) := dk_29 (dk_at dksX9_widens_2 23 rfl rfl)
theorem dX9_widens_70 : decode cX9_widens 70 = .ok (.ireturn, 1) := dk_172 (dk_at dksX9_widens_3 0 rfl rfl)
abbrev cX9_undo : ByteArray := prog_13_method_30_code
def yX9_undo : MethodName := ⟨RX9, "undo", "()I"⟩
def dkwX9_undo_2 : List UInt8 := [180, 0, 124, 104, 27, 96, 46, 79, 132, 1, 1, 167, 255, 227, 42, 180, 0, 124, 172]
abbrev dktX9_undo_2 : List UInt8 := dkwX9_undo_2 ++ []
def dkwX9_undo_1 : List UInt8 := [181, 0, 124, 3, 60, 27, 16, 56, 162, 0, 29, 42, 180, 0, 40, 27, 42, 180, 0, 53, 16, 56, 42]
abbrev dktX9_undo_1 : List UInt8 := dkwX9_undo_1 ++ dktX9_undo_2
def dkwX9_undo_0 : List UInt8 := [42, 3, 181, 0, 68, 42, 180, 0, 124, 154, 0, 6, 16, 254, 172, 42, 89, 180, 0, 124, 4, 100]
abbrev dktX9_undo_0 : List UInt8 := dkwX9_undo_0 ++ dktX9_undo_1
theorem dksX9_undo_0 : cX9_undo.data.toList.drop 0 = dktX9_undo_0 := by decide +kernel
theorem dksX9_undo_1 : cX9_undo.data.toList.drop 22 = dktX9_undo_1 := dk_seg dksX9_undo_0 22 rfl rfl
theorem dksX9_undo_2 : cX9_undo.data.toList.drop 45 = dktX9_undo_2 := dk_seg dksX9_undo_1 23 rfl rfl
theorem dX9_undo_0 : decode cX9_undo 0 = .ok (.aload_n 0, 1) := dk_42 (dk_at dksX9_undo_0 0 rfl rfl)
theorem dX9_undo_1 : decode cX9_undo 1 = .ok (.iconst 0, 1) := dk_3 (dk_at dksX9_undo_0 1 rfl rfl)
theorem dX9_undo_2 : decode cX9_undo 2 = .ok (.putfield 68, 3) := dk_181 0 68 (dk_at dksX9_undo_0 2 rfl rfl)
theorem dX9_undo_5 : decode cX9_undo 5 = .ok (.aload_n 0, 1) := dk_42 (dk_at dksX9_undo_0 5 rfl rfl)
theorem dX9_undo_6 : decode cX9_undo 6 = .ok (.getfield 124, 3) := dk_180 0 124 (dk_at dksX9_undo_0 6 rfl rfl)
theorem dX9_undo_9 : decode cX9_undo 9 = .ok (.ifCond .ne 6, 3) := dk_154 0 6 (dk_at dksX9_undo_0 9 rfl rfl)
theorem dX9_undo_12 : decode cX9_undo 12 = .ok (.bipush (-2), 2) := dk_16 254 (dk_at dksX9_undo_0 12 rfl rfl)
theorem dX9_undo_14 : decode cX9_undo 14 = .ok (.ireturn, 1) := dk_172 (dk_at dksX9_undo_0 14 rfl rfl)
theorem dX9_undo_15 : decode cX9_undo 15 = .ok (.aload_n 0, 1) := dk_42 (dk_at dksX9_undo_0 15 rfl rfl)
theorem dX9_undo_16 : decode cX9_undo 16 = .ok (.dup, 1) := dk_89 (dk_at dksX9_undo_0 16 rfl rfl)
theorem dX9_undo_17 : decode cX9_undo 17 = .ok (.getfield 124, 3) := dk_180 0 124 (dk_at dksX9_undo_0 17 rfl rfl)
theorem dX9_undo_20 : decode cX9_undo 20 = .ok (.iconst 1, 1) := dk_4 (dk_at dksX9_undo_0 20 rfl rfl)
theorem dX9_undo_21 : decode cX9_undo 21 = .ok (.isub, 1) := dk_100 (dk_at dksX9_undo_0 21 rfl rfl)
theorem dX9_undo_22 : decode cX9_undo 22 = .ok (.putfield 124, 3) := dk_181 0 124 (dk_at dksX9_undo_1 0 rfl rfl)
theorem dX9_undo_25 : decode cX9_undo 25 = .ok (.iconst 0, 1) := dk_3 (dk_at dksX9_undo_1 3 rfl rfl)
theorem dX9_undo_26 : decode cX9_undo 26 = .ok (.istore_n 1, 1) := dk_60 (dk_at dksX9_undo_1 4 rfl rfl)
theorem dX9_undo_27 : decode cX9_undo 27 = .ok (.iload_n 1, 1) := dk_27 (dk_at dksX9_undo_1 5 rfl rfl)
theorem dX9_undo_28 : decode cX9_undo 28 = .ok (.bipush 56, 2) := dk_16 56 (dk_at dksX9_undo_1 6 rfl rfl)
theorem dX9_undo_30 : decode cX9_undo 30 = .ok (.if_icmp .ge 29, 3) := dk_162 0 29 (dk_at dksX9_undo_1 8 rfl rfl)
theorem dX9_undo_33 : decode cX9_undo 33 = .ok (.aload_n 0, 1) := dk_42 (dk_at dksX9_undo_1 11 rfl rfl)
theorem dX9_undo_34 : decode cX9_undo 34 = .ok (.getfield 40, 3) := dk_180 0 40 (dk_at dksX9_undo_1 12 rfl rfl)
theorem dX9_undo_37 : decode cX9_undo 37 = .ok (.iload_n 1, 1) := dk_27 (dk_at dksX9_undo_1 15 rfl rfl)
theorem dX9_undo_38 : decode cX9_undo 38 = .ok (.aload_n 0, 1) := dk_42 (dk_at dksX9_undo_1 16 rfl rfl)
theorem dX9_undo_39 : decode cX9_undo 39 = .ok (.getfield 53, 3) := dk_180 0 53 (dk_at dksX9_undo_1 17 rfl rfl)
theorem dX9_undo_42 : decode cX9_undo 42 = .ok (.bipush 56, 2) := dk_16 56 (dk_at dksX9_undo_1 20 rfl rfl)
theorem dX9_undo_44 : decode cX9_undo 44 = .ok (.aload_n 0, 1) := dk_42 (dk_at dksX9_undo_1 22 rfl rfl)
theorem dX9_undo_45 : decode cX9_undo 45 = .ok (.getfield 124, 3) := dk_180 0 124 (dk_at dksX9_undo_2 0 rfl rfl)
theorem dX9_undo_48 : decode cX9_undo 48 = .ok (.imul, 1) := dk_104 (dk_at dksX9_undo_2 3 rfl rfl)
theorem dX9_undo_49 : decode cX9_undo 49 = .ok (.iload_n 1, 1) := dk_27 (dk_at dksX9_undo_2 4 rfl rfl)
theorem dX9_undo_50 : decode cX9_undo 50 = .ok (.iadd, 1) := dk_96 (dk_at dksX9_undo_2 5 rfl rfl)
theorem dX9_undo_51 : decode cX9_undo 51 = .ok (.iaload, 1) := dk_46 (dk_at dksX9_undo_2 6 rfl rfl)
theorem dX9_undo_52 : decode cX9_undo 52 = .ok (.iastore, 1) := dk_79 (dk_at dksX9_undo_2 7 rfl rfl)
theorem dX9_undo_53 : decode cX9_undo 53 = .ok (.iinc 1 1, 3) := dk_132 1 1 (dk_at dksX9_undo_2 8 rfl rfl)
theorem dX9_undo_56 : decode cX9_undo 56 = .ok (.goto (-29), 3) := dk_167 255 227 (dk_at dksX9_undo_2 11 rfl rfl)
theorem dX9_undo_59 : decode cX9_undo 59 = .ok (.aload_n 0, 1) := dk_42 (dk_at dksX9_undo_2 14 rfl rfl)
theorem dX9_undo_60 : decode cX9_undo 60 = .ok (.getfield 124, 3) := dk_180 0 124 (dk_at dksX9_undo_2 15 rfl rfl)
theorem dX9_undo_63 : decode cX9_undo 63 = .ok (.ireturn, 1) := dk_172 (dk_at dksX9_undo_2 18 rfl rfl)
abbrev cX9_inLots : ByteArray := prog_13_method_32_code
def yX9_inLots : MethodName := ⟨RX9, "inLots", "(III)I"⟩
def dkwX9_inLots_4 : List UInt8 := [167, 0, 11, 42, 180, 0, 43, 5, 29, 96, 46, 172]
abbrev dktX9_inLots_4 : List UInt8 := dkwX9_inLots_4 ++ []
def dkwX9_inLots_3 : List UInt8 := [17, 39, 16, 112, 182, 0, 159, 96, 54, 4, 132, 5, 1, 167, 255, 226, 29, 2, 160, 0, 8, 21, 4]
abbrev dktX9_inLots_3 : List UInt8 := dkwX9_inLots_3 ++ dktX9_inLots_4
def dkwX9_inLots_2 : List UInt8 := [54, 4, 3, 54, 5, 21, 5, 28, 162, 0, 30, 21, 4, 42, 42, 180, 0, 43, 27, 21, 5, 96]
abbrev dktX9_inLots_2 : List UInt8 := dkwX9_inLots_2 ++ dktX9_inLots_3
def dkwX9_inLots_1 : List UInt8 := [153, 0, 16, 29, 2, 159, 0, 13, 42, 29, 182, 0, 127, 154, 0, 5, 2, 172, 42, 182, 0, 162, 3]
abbrev dktX9_inLots_1 : List UInt8 := dkwX9_inLots_1 ++ dktX9_inLots_2
def dkwX9_inLots_0 : List UInt8 := [42, 3, 181, 0, 68, 27, 3, 17, 39, 15, 184, 0, 72, 153, 0, 26, 28, 3, 16, 20, 184, 0, 72]
abbrev dktX9_inLots_0 : List UInt8 := dkwX9_inLots_0 ++ dktX9_inLots_1
theorem dksX9_inLots_0 : cX9_inLots.data.toList.drop 0 = dktX9_inLots_0 := by decide +kernel
theorem dksX9_inLots_1 : cX9_inLots.data.toList.drop 23 = dktX9_inLots_1 := dk_seg dksX9_inLots_0 23 rfl rfl
theorem dksX9_inLots_2 : cX9_inLots.data.toList.drop 46 = dktX9_inLots_2 := dk_seg dksX9_inLots_1 23 rfl rfl
theorem dksX9_inLots_3 : cX9_inLots.data.toList.drop 68 = dktX9_inLots_3 := dk_seg dksX9_inLots_2 22 rfl rfl
theorem dksX9_inLots_4 : cX9_inLots.data.toList.drop 91 = dktX9_inLots_4 := dk_seg dksX9_inLots_3 23 rfl rfl
theorem dX9_inLots_0 : decode cX9_inLots 0 = .ok (.aload_n 0, 1) := dk_42 (dk_at dksX9_inLots_0 0 rfl rfl)
theorem dX9_inLots_1 : decode cX9_inLots 1 = .ok (.iconst 0, 1) := dk_3 (dk_at dksX9_inLots_0 1 rfl rfl)
theorem dX9_inLots_2 : decode cX9_inLots 2 = .ok (.putfield 68, 3) := dk_181 0 68 (dk_at dksX9_inLots_0 2 rfl rfl)
theorem dX9_inLots_5 : decode cX9_inLots 5 = .ok (.iload_n 1, 1) := dk_27 (dk_at dksX9_inLots_0 5 rfl rfl)
theorem dX9_inLots_6 : decode cX9_inLots 6 = .ok (.iconst 0, 1) := dk_3 (dk_at dksX9_inLots_0 6 rfl rfl)
theorem dX9_inLots_7 : decode cX9_inLots 7 = .ok (.sipush 9999, 3) := dk_17 39 15 (dk_at dksX9_inLots_0 7 rfl rfl)
theorem dX9_inLots_10 : decode cX9_inLots 10 = .ok (.invokestatic 72, 3) := dk_184 0 72 (dk_at dksX9_inLots_0 10 rfl rfl)
theorem dX9_inLots_13 : decode cX9_inLots 13 = .ok (.ifCond .eq 26, 3) := dk_153 0 26 (dk_at dksX9_inLots_0 13 rfl rfl)
theorem dX9_inLots_16 : decode cX9_inLots 16 = .ok (.iload_n 2, 1) := dk_28 (dk_at dksX9_inLots_0 16 rfl rfl)
theorem dX9_inLots_17 : decode cX9_inLots 17 = .ok (.iconst 0, 1) := dk_3 (dk_at dksX9_inLots_0 17 rfl rfl)
theorem dX9_inLots_18 : decode cX9_inLots 18 = .ok (.bipush 20, 2) := dk_16 20 (dk_at dksX9_inLots_0 18 rfl rfl)
theorem dX9_inLots_20 : decode cX9_inLots 20 = .ok (.invokestatic 72, 3) := dk_184 0 72 (dk_at dksX9_inLots_0 20 rfl rfl)
theorem dX9_inLots_23 : decode cX9_inLots 23 = .ok (.ifCond .eq 16, 3) := dk_153 0 16 (dk_at dksX9_inLots_1 0 rfl rfl)
theorem dX9_inLots_26 : decode cX9_inLots 26 = .ok (.iload_n 3, 1) := dk_29 (dk_at dksX9_inLots_1 3 rfl rfl)
theorem dX9_inLots_27 : decode cX9_inLots 27 = .ok (.iconst (-1), 1) := dk_2 (dk_at dksX9_inLots_1 4 rfl rfl)
theorem dX9_inLots_28 : decode cX9_inLots 28 = .ok (.if_icmp .eq 13, 3) := dk_159 0 13 (dk_at dksX9_inLots_1 5 rfl rfl)
theorem dX9_inLots_31 : decode cX9_inLots 31 = .ok (.aload_n 0, 1) := dk_42 (dk_at dksX9_inLots_1 8 rfl rfl)
theorem dX9_inLots_32 : decode cX9_inLots 32 = .ok (.iload_n 3, 1) := dk_29 (dk_at dksX9_inLots_1 9 rfl rfl)
theorem dX9_inLots_33 : decode cX9_inLots 33 = .ok (.invokevirtual 127, 3) := dk_182 0 127 (dk_at dksX9_inLots_1 10 rfl rfl)
theorem dX9_inLots_36 : decode cX9_inLots 36 = .ok (.ifCond .ne 5, 3) := dk_154 0 5 (dk_at dksX9_inLots_1 13 rfl rfl)
theorem dX9_inLots_39 : decode cX9_inLots 39 = .ok (.iconst (-1), 1) := dk_2 (dk_at dksX9_inLots_1 16 rfl rfl)
theorem dX9_inLots_40 : decode cX9_inLots 40 = .ok (.ireturn, 1) := dk_172 (dk_at dksX9_inLots_1 17 rfl rfl)
theorem dX9_inLots_41 : decode cX9_inLots 41 = .ok (.aload_n 0, 1) := dk_42 (dk_at dksX9_inLots_1 18 rfl rfl)
theorem dX9_inLots_42 : decode cX9_inLots 42 = .ok (.invokevirtual 162, 3) := dk_182 0 162 (dk_at dksX9_inLots_1 19 rfl rfl)
theorem dX9_inLots_45 : decode cX9_inLots 45 = .ok (.iconst 0, 1) := dk_3 (dk_at dksX9_inLots_1 22 rfl rfl)
theorem dX9_inLots_46 : decode cX9_inLots 46 = .ok (.istore 4, 2) := dk_54 4 (dk_at dksX9_inLots_2 0 rfl rfl)
theorem dX9_inLots_48 : decode cX9_inLots 48 = .ok (.iconst 0, 1) := dk_3 (dk_at dksX9_inLots_2 2 rfl rfl)
theorem dX9_inLots_49 : decode cX9_inLots 49 = .ok (.istore 5, 2) := dk_54 5 (dk_at dksX9_inLots_2 3 rfl rfl)
theorem dX9_inLots_51 : decode cX9_inLots 51 = .ok (.iload 5, 2) := dk_21 5 (dk_at dksX9_inLots_2 5 rfl rfl)
theorem dX9_inLots_53 : decode cX9_inLots 53 = .ok (.iload_n 2, 1) := dk_28 (dk_at dksX9_inLots_2 7 rfl rfl)
theorem dX9_inLots_54 : decode cX9_inLots 54 = .ok (.if_icmp .ge 30, 3) := dk_162 0 30 (dk_at dksX9_inLots_2 8 rfl rfl)
theorem dX9_inLots_57 : decode cX9_inLots 57 = .ok (.iload 4, 2) := dk_21 4 (dk_at dksX9_inLots_2 11 rfl rfl)
theorem dX9_inLots_59 : decode cX9_inLots 59 = .ok (.aload_n 0, 1) := dk_42 (dk_at dksX9_inLots_2 13 rfl rfl)
theorem dX9_inLots_60 : decode cX9_inLots 60 = .ok (.aload_n 0, 1) := dk_42 (dk_at dksX9_inLots_2 14 rfl rfl)
theorem dX9_inLots_61 : decode cX9_inLots 61 = .ok (.getfield 43, 3) := dk_180 0 43 (dk_at dksX9_inLots_2 15 rfl rfl)
theorem dX9_inLots_64 : decode cX9_inLots 64 = .ok (.iload_n 1, 1) := dk_27 (dk_at dksX9_inLots_2 18 rfl rfl)
theorem dX9_inLots_65 : decode cX9_inLots 65 = .ok (.iload 5, 2) := dk_21 5 (dk_at dksX9_inLots_2 19 rfl rfl)
theorem dX9_inLots_67 : decode cX9_inLots 67 = .ok (.iadd, 1) := dk_96 (dk_at dksX9_inLots_2 21 rfl rfl)
theorem dX9_inLots_68 : decode cX9_inLots 68 = .ok (.sipush 10000, 3) := dk_17 39 16 (dk_at dksX9_inLots_3 0 rfl rfl)
theorem dX9_inLots_71 : decode cX9_inLots 71 = .ok (.irem, 1) := dk_112 (dk_at dksX9_inLots_3 3 rfl rfl)
theorem dX9_inLots_72 : decode cX9_inLots 72 = .ok (.invokevirtual 159, 3) := dk_182 0 159 (dk_at dksX9_inLots_3 4 rfl rfl)
theorem dX9_inLots_75 : decode cX9_inLots 75 = .ok (.iadd, 1) := dk_96 (dk_at dksX9_inLots_3 7 rfl rfl)
theorem dX9_inLots_76 : decode cX9_inLots 76 = .ok (.istore 4, 2) := dk_54 4 (dk_at dksX9_inLots_3 8 rfl rfl)
theorem dX9_inLots_78 : decode cX9_inLots 78 = .ok (.iinc 5 1, 3) := dk_132 5 1 (dk_at dksX9_inLots_3 10 rfl rfl)
theorem dX9_inLots_81 : decode cX9_inLots 81 = .ok (.goto (-30), 3) := dk_167 255 226 (dk_at dksX9_inLots_3 13 rfl rfl)
theorem dX9_inLots_84 : decode cX9_inLots 84 = .ok (.iload_n 3, 1) := dk_29 (dk_at dksX9_inLots_3 16 rfl rfl)
theorem dX9_inLots_85 : decode cX9_inLots 85 = .ok (.iconst (-1), 1) := dk_2 (dk_at dksX9_inLots_3 17 rfl rfl)
theorem dX9_inLots_86 : decode cX9_inLots 86 = .ok (.if_icmp .ne 8, 3) := dk_160 0 8 (dk_at dksX9_inLots_3 18 rfl rfl)
theorem dX9_inLots_89 : decode cX9_inLots 89 = .ok (.iload 4, 2) := dk_21 4 (dk_at dksX9_inLots_3 21 rfl rfl)
theorem dX9_inLots_91 : decode cX9_inLots 91 = .ok (.goto 11, 3) := dk_167 0 11 (dk_at dksX9_inLots_4 0 rfl rfl)
theorem dX9_inLots_94 : decode cX9_inLots 94 = .ok (.aload_n 0, 1) := dk_42 (dk_at dksX9_inLots_4 3 rfl rfl)
theorem dX9_inLots_95 : decode cX9_inLots 95 = .ok (.getfield 43, 3) := dk_180 0 43 (dk_at dksX9_inLots_4 4 rfl rfl)
theorem dX9_inLots_98 : decode cX9_inLots 98 = .ok (.iconst 2, 1) := dk_5 (dk_at dksX9_inLots_4 7 rfl rfl)
theorem dX9_inLots_99 : decode cX9_inLots 99 = .ok (.iload_n 3, 1) := dk_29 (dk_at dksX9_inLots_4 8 rfl rfl)
theorem dX9_inLots_100 : decode cX9_inLots 100 = .ok (.iadd, 1) := dk_96 (dk_at dksX9_inLots_4 9 rfl rfl)
theorem dX9_inLots_101 : decode cX9_inLots 101 = .ok (.iaload, 1) := dk_46 (dk_at dksX9_inLots_4 10 rfl rfl)
theorem dX9_inLots_102 : decode cX9_inLots 102 = .ok (.ireturn, 1) := dk_172 (dk_at dksX9_inLots_4 11 rfl rfl)
abbrev cX9_asNow : ByteArray := prog_13_method_31_code
def yX9_asNow : MethodName := ⟨RX9, "asNow", "()V"⟩
def dkwX9_asNow_1 : List UInt8 := [167, 255, 235, 177]
abbrev dktX9_asNow_1 : List UInt8 := dkwX9_asNow_1 ++ []
def dkwX9_asNow_0 : List UInt8 := [3, 60, 27, 16, 56, 162, 0, 21, 42, 180, 0, 43, 27, 42, 180, 0, 40, 27, 46, 79, 132, 1, 1]
abbrev dktX9_asNow_0 : List UInt8 := dkwX9_asNow_0 ++ dktX9_asNow_1
theorem dksX9_asNow_0 : cX9_asNow.data.toList.drop 0 = dktX9_asNow_0 := by decide +kernel
theorem dksX9_asNow_1 : cX9_asNow.data.toList.drop 23 = dktX9_asNow_1 := dk_seg dksX9_asNow_0 23 rfl rfl
theorem dX9_asNow_0 : decode cX9_asNow 0 = .ok (.iconst 0, 1) := dk_3 (dk_at dksX9_asNow_0 0 rfl rfl)
theorem dX9_asNow_1 : decode cX9_asNow 1 = .ok (.istore_n 1, 1) := dk_60 (dk_at dksX9_asNow_0 1 rfl rfl)
theorem dX9_asNow_2 : decode cX9_asNow 2 = .ok (.iload_n 1, 1) := dk_27 (dk_at dksX9_asNow_0 2 rfl rfl)
theorem dX9_asNow_3 : decode cX9_asNow 3 = .ok (.bipush 56, 2) := dk_16 56 (dk_at dksX9_asNow_0 3 rfl rfl)
theorem dX9_asNow_5 : decode cX9_asNow 5 = .ok (.if_icmp .ge 21, 3) := dk_162 0 21 (dk_at dksX9_asNow_0 5 rfl rfl)
theorem dX9_asNow_8 : decode cX9_asNow 8 = .ok (.aload_n 0, 1) := dk_42 (dk_at dksX9_asNow_0 8 rfl rfl)
theorem dX9_asNow_9 : decode cX9_asNow 9 = .ok (.getfield 43, 3) := dk_180 0 43 (dk_at dksX9_asNow_0 9 rfl rfl)
theorem dX9_asNow_12 : decode cX9_asNow 12 = .ok (.iload_n 1, 1) := dk_27 (dk_at dksX9_asNow_0 12 rfl rfl)
theorem dX9_asNow_13 : decode cX9_asNow 13 = .ok (.aload_n 0, 1) := dk_42 (dk_at dksX9_asNow_0 13 rfl rfl)
theorem dX9_asNow_14 : decode cX9_asNow 14 = .ok (.getfield 40, 3) := dk_180 0 40 (dk_at dksX9_asNow_0 14 rfl rfl)
theorem dX9_asNow_17 : decode cX9_asNow 17 = .ok (.iload_n 1, 1) := dk_27 (dk_at dksX9_asNow_0 17 rfl rfl)
theorem dX9_asNow_18 : decode cX9_asNow 18 = .ok (.iaload, 1) := dk_46 (dk_at dksX9_asNow_0 18 rfl rfl)
theorem dX9_asNow_19 : decode cX9_asNow 19 = .ok (.iastore, 1) := dk_79 (dk_at dksX9_asNow_0 19 rfl rfl)
theorem dX9_asNow_20 : decode cX9_asNow 20 = .ok (.iinc 1 1, 3) := dk_132 1 1 (dk_at dksX9_asNow_0 20 rfl rfl)
theorem dX9_asNow_23 : decode cX9_asNow 23 = .ok (.goto (-21), 3) := dk_167 255 235 (dk_at dksX9_asNow_1 0 rfl rfl)
theorem dX9_asNow_26 : decode cX9_asNow 26 = .ok (.return_, 1) := dk_177 (dk_at dksX9_asNow_1 3 rfl rfl)
abbrev cX9_cost : ByteArray := prog_13_method_33_code
def yX9_cost : MethodName := ⟨RX9, "cost", "(I)I"⟩
def dkwX9_cost_4 : List UInt8 := [104, 96, 61, 132, 3, 1, 167, 255, 183, 28, 18, 120, 161, 0, 8, 16, 247, 167, 0, 4, 28, 172]
abbrev dktX9_cost_4 : List UInt8 := dkwX9_cost_4 ++ []
def dkwX9_cost_3 : List UInt8 := [167, 0, 26, 28, 42, 180, 0, 19, 42, 180, 0, 40, 5, 42, 180, 0, 62, 29, 46, 96, 46, 46, 21, 4]
abbrev dktX9_cost_3 : List UInt8 := dkwX9_cost_3 ++ dktX9_cost_4
def dkwX9_cost_2 : List UInt8 := [46, 104, 29, 96, 46, 54, 4, 21, 4, 18, 120, 162, 0, 9, 28, 18, 120, 161, 0, 8, 18, 120]
abbrev dktX9_cost_2 : List UInt8 := dkwX9_cost_2 ++ dktX9_cost_3
def dkwX9_cost_1 : List UInt8 := [61, 3, 62, 29, 42, 180, 0, 13, 3, 46, 162, 0, 69, 42, 180, 0, 37, 16, 6, 42, 180, 0, 62, 29]
abbrev dktX9_cost_1 : List UInt8 := dkwX9_cost_1 ++ dktX9_cost_2
def dkwX9_cost_0 : List UInt8 := [42, 3, 181, 0, 68, 27, 3, 17, 39, 15, 184, 0, 72, 154, 0, 5, 2, 172, 42, 27, 182, 0, 149, 3]
abbrev dktX9_cost_0 : List UInt8 := dkwX9_cost_0 ++ dktX9_cost_1
theorem dksX9_cost_0 : cX9_cost.data.toList.drop 0 = dktX9_cost_0 := by decide +kernel
theorem dksX9_cost_1 : cX9_cost.data.toList.drop 24 = dktX9_cost_1 := dk_seg dksX9_cost_0 24 rfl rfl
theorem dksX9_cost_2 : cX9_cost.data.toList.drop 48 = dktX9_cost_2 := dk_seg dksX9_cost_1 24 rfl rfl
theorem dksX9_cost_3 : cX9_cost.data.toList.drop 70 = dktX9_cost_3 := dk_seg dksX9_cost_2 22 rfl rfl
theorem dksX9_cost_4 : cX9_cost.data.toList.drop 94 = dktX9_cost_4 := dk_seg dksX9_cost_3 24 rfl rfl
theorem dX9_cost_0 : decode cX9_cost 0 = .ok (.aload_n 0, 1) := dk_42 (dk_at dksX9_cost_0 0 rfl rfl)
theorem dX9_cost_1 : decode cX9_cost 1 = .ok (.iconst 0, 1) := dk_3 (dk_at dksX9_cost_0 1 rfl rfl)
theorem dX9_cost_2 : decode cX9_cost 2 = .ok (.putfield 68, 3) := dk_181 0 68 (dk_at dksX9_cost_0 2 rfl rfl)
theorem dX9_cost_5 : decode cX9_cost 5 = .ok (.iload_n 1, 1) := dk_27 (dk_at dksX9_cost_0 5 rfl rfl)
theorem dX9_cost_6 : decode cX9_cost 6 = .ok (.iconst 0, 1) := dk_3 (dk_at dksX9_cost_0 6 rfl rfl)
theorem dX9_cost_7 : decode cX9_cost 7 = .ok (.sipush 9999, 3) := dk_17 39 15 (dk_at dksX9_cost_0 7 rfl rfl)
theorem dX9_cost_10 : decode cX9_cost 10 = .ok (.invokestatic 72, 3) := dk_184 0 72 (dk_at dksX9_cost_0 10 rfl rfl)
theorem dX9_cost_13 : decode cX9_cost 13 = .ok (.ifCond .ne 5, 3) := dk_154 0 5 (dk_at dksX9_cost_0 13 rfl rfl)
theorem dX9_cost_16 : decode cX9_cost 16 = .ok (.iconst (-1), 1) := dk_2 (dk_at dksX9_cost_0 16 rfl rfl)
theorem dX9_cost_17 : decode cX9_cost 17 = .ok (.ireturn, 1) := dk_172 (dk_at dksX9_cost_0 17 rfl rfl)
theorem dX9_cost_18 : decode cX9_cost 18 = .ok (.aload_n 0, 1) := dk_42 (dk_at dksX9_cost_0 18 rfl rfl)
theorem dX9_cost_19 : decode cX9_cost 19 = .ok (.iload_n 1, 1) := dk_27 (dk_at dksX9_cost_0 19 rfl rfl)
theorem dX9_cost_20 : decode cX9_cost 20 = .ok (.invokevirtual 149, 3) := dk_182 0 149 (dk_at dksX9_cost_0 20 rfl rfl)
theorem dX9_cost_23 : decode cX9_cost 23 = .ok (.iconst 0, 1) := dk_3 (dk_at dksX9_cost_0 23 rfl rfl)
theorem dX9_cost_24 : decode cX9_cost 24 = .ok (.istore_n 2, 1) := dk_61 (dk_at dksX9_cost_1 0 rfl rfl)
theorem dX9_cost_25 : decode cX9_cost 25 = .ok (.iconst 0, 1) := dk_3 (dk_at dksX9_cost_1 1 rfl rfl)
theorem dX9_cost_26 : decode cX9_cost 26 = .ok (.istore_n 3, 1) := dk_62 (dk_at dksX9_cost_1 2 rfl rfl)
theorem dX9_cost_27 : decode cX9_cost 27 = .ok (.iload_n 3, 1) := dk_29 (dk_at dksX9_cost_1 3 rfl rfl)
theorem dX9_cost_28 : decode cX9_cost 28 = .ok (.aload_n 0, 1) := dk_42 (dk_at dksX9_cost_1 4 rfl rfl)
theorem dX9_cost_29 : decode cX9_cost 29 = .ok (.getfield 13, 3) := dk_180 0 13 (dk_at dksX9_cost_1 5 rfl rfl)
theorem dX9_cost_32 : decode cX9_cost 32 = .ok (.iconst 0, 1) := dk_3 (dk_at dksX9_cost_1 8 rfl rfl)
theorem dX9_cost_33 : decode cX9_cost 33 = .ok (.iaload, 1) := dk_46 (dk_at dksX9_cost_1 9 rfl rfl)
theorem dX9_cost_34 : decode cX9_cost 34 = .ok (.if_icmp .ge 69, 3) := dk_162 0 69 (dk_at dksX9_cost_1 10 rfl rfl)
theorem dX9_cost_37 : decode cX9_cost 37 = .ok (.aload_n 0, 1) := dk_42 (dk_at dksX9_cost_1 13 rfl rfl)
theorem dX9_cost_38 : decode cX9_cost 38 = .ok (.getfield 37, 3) := dk_180 0 37 (dk_at dksX9_cost_1 14 rfl rfl)
theorem dX9_cost_41 : decode cX9_cost 41 = .ok (.bipush 6, 2) := dk_16 6 (dk_at dksX9_cost_1 17 rfl rfl)
theorem dX9_cost_43 : decode cX9_cost 43 = .ok (.aload_n 0, 1) := dk_42 (dk_at dksX9_cost_1 19 rfl rfl)
theorem dX9_cost_44 : decode cX9_cost 44 = .ok (.getfield 62, 3) := dk_180 0 62 (dk_at dksX9_cost_1 20 rfl rfl)
theorem dX9_cost_47 : decode cX9_cost 47 = .ok (.iload_n 3, 1) := dk_29 (dk_at dksX9_cost_1 23 rfl rfl)
theorem dX9_cost_48 : decode cX9_cost 48 = .ok (.iaload, 1) := dk_46 (dk_at dksX9_cost_2 0 rfl rfl)
theorem dX9_cost_49 : decode cX9_cost 49 = .ok (.imul, 1) := dk_104 (dk_at dksX9_cost_2 1 rfl rfl)
theorem dX9_cost_50 : decode cX9_cost 50 = .ok (.iload_n 3, 1) := dk_29 (dk_at dksX9_cost_2 2 rfl rfl)
theorem dX9_cost_51 : decode cX9_cost 51 = .ok (.iadd, 1) := dk_96 (dk_at dksX9_cost_2 3 rfl rfl)
theorem dX9_cost_52 : decode cX9_cost 52 = .ok (.iaload, 1) := dk_46 (dk_at dksX9_cost_2 4 rfl rfl)
theorem dX9_cost_53 : decode cX9_cost 53 = .ok (.istore 4, 2) := dk_54 4 (dk_at dksX9_cost_2 5 rfl rfl)
theorem dX9_cost_55 : decode cX9_cost 55 = .ok (.iload 4, 2) := dk_21 4 (dk_at dksX9_cost_2 7 rfl rfl)
theorem dX9_cost_57 : decode cX9_cost 57 = .ok (.ldc 120, 2) := dk_18 120 (dk_at dksX9_cost_2 9 rfl rfl)
theorem dX9_cost_59 : decode cX9_cost 59 = .ok (.if_icmp .ge 9, 3) := dk_162 0 9 (dk_at dksX9_cost_2 11 rfl rfl)
theorem dX9_cost_62 : decode cX9_cost 62 = .ok (.iload_n 2, 1) := dk_28 (dk_at dksX9_cost_2 14 rfl rfl)
theorem dX9_cost_63 : decode cX9_cost 63 = .ok (.ldc 120, 2) := dk_18 120 (dk_at dksX9_cost_2 15 rfl rfl)
theorem dX9_cost_65 : decode cX9_cost 65 = .ok (.if_icmp .lt 8, 3) := dk_161 0 8 (dk_at dksX9_cost_2 17 rfl rfl)
theorem dX9_cost_68 : decode cX9_cost 68 = .ok (.ldc 120, 2) := dk_18 120 (dk_at dksX9_cost_2 20 rfl rfl)
theorem dX9_cost_70 : decode cX9_cost 70 = .ok (.goto 26, 3) := dk_167 0 26 (dk_at dksX9_cost_3 0 rfl rfl)
theorem dX9_cost_73 : decode cX9_cost 73 = .ok (.iload_n 2, 1) := dk_28 (dk_at dksX9_cost_3 3 rfl rfl)
theorem dX9_cost_74 : decode cX9_cost 74 = .ok (.aload_n 0, 1) := dk_42 (dk_at dksX9_cost_3 4 rfl rfl)
theorem dX9_cost_75 : decode cX9_cost 75 = .ok (.getfield 19, 3) := dk_180 0 19 (dk_at dksX9_cost_3 5 rfl rfl)
theorem dX9_cost_78 : decode cX9_cost 78 = .ok (.aload_n 0, 1) := dk_42 (dk_at dksX9_cost_3 8 rfl rfl)
theorem dX9_cost_79 : decode cX9_cost 79 = .ok (.getfield 40, 3) := dk_180 0 40 (dk_at dksX9_cost_3 9 rfl rfl)
theorem dX9_cost_82 : decode cX9_cost 82 = .ok (.iconst 2, 1) := dk_5 (dk_at dksX9_cost_3 12 rfl rfl)
theorem dX9_cost_83 : decode cX9_cost 83 = .ok (.aload_n 0, 1) := dk_42 (dk_at dksX9_cost_3 13 rfl rfl)
theorem dX9_cost_84 : decode cX9_cost 84 = .ok (.getfield 62, 3) := dk_180 0 62 (dk_at dksX9_cost_3 14 rfl rfl)
theorem dX9_cost_87 : decode cX9_cost 87 = .ok (.iload_n 3, 1) := dk_29 (dk_at dksX9_cost_3 17 rfl rfl)
theorem dX9_cost_88 : decode cX9_cost 88 = .ok (.iaload, 1) := dk_46 (dk_at dksX9_cost_3 18 rfl rfl)
theorem dX9_cost_89 : decode cX9_cost 89 = .ok (.iadd, 1) := dk_96 (dk_at dksX9_cost_3 19 rfl rfl)
theorem dX9_cost_90 : decode cX9_cost 90 = .ok (.iaload, 1) := dk_46 (dk_at dksX9_cost_3 20 rfl rfl)
theorem dX9_cost_91 : decode cX9_cost 91 = .ok (.iaload, 1) := dk_46 (dk_at dksX9_cost_3 21 rfl rfl)
theorem dX9_cost_92 : decode cX9_cost 92 = .ok (.iload 4, 2) := dk_21 4 (dk_at dksX9_cost_3 22 rfl rfl)
theorem dX9_cost_94 : decode cX9_cost 94 = .ok (.imul, 1) := dk_104 (dk_at dksX9_cost_4 0 rfl rfl)
theorem dX9_cost_95 : decode cX9_cost 95 = .ok (.iadd, 1) := dk_96 (dk_at dksX9_cost_4 1 rfl rfl)
theorem dX9_cost_96 : decode cX9_cost 96 = .ok (.istore_n 2, 1) := dk_61 (dk_at dksX9_cost_4 2 rfl rfl)
theorem dX9_cost_97 : decode cX9_cost 97 = .ok (.iinc 3 1, 3) := dk_132 3 1 (dk_at dksX9_cost_4 3 rfl rfl)
theorem dX9_cost_100 : decode cX9_cost 100 = .ok (.goto (-73), 3) := dk_167 255 183 (dk_at dksX9_cost_4 6 rfl rfl)
theorem dX9_cost_103 : decode cX9_cost 103 = .ok (.iload_n 2, 1) := dk_28 (dk_at dksX9_cost_4 9 rfl rfl)
theorem dX9_cost_104 : decode cX9_cost 104 = .ok (.ldc 120, 2) := dk_18 120 (dk_at dksX9_cost_4 10 rfl rfl)
theorem dX9_cost_106 : decode cX9_cost 106 = .ok (.if_icmp .lt 8, 3) := dk_161 0 8 (dk_at dksX9_cost_4 12 rfl rfl)
theorem dX9_cost_109 : decode cX9_cost 109 = .ok (.bipush (-9), 2) := dk_16 247 (dk_at dksX9_cost_4 15 rfl rfl)
theorem dX9_cost_111 : decode cX9_cost 111 = .ok (.goto 4, 3) := dk_167 0 4 (dk_at dksX9_cost_4 17 rfl rfl)
theorem dX9_cost_114 : decode cX9_cost 114 = .ok (.iload_n 2, 1) := dk_28 (dk_at dksX9_cost_4 20 rfl rfl)
theorem dX9_cost_115 : decode cX9_cost 115 = .ok (.ireturn, 1) := dk_172 (dk_at dksX9_cost_4 21 rfl rfl)
abbrev cX9_home : ByteArray := prog_13_method_34_code
def yX9_home : MethodName := ⟨RX9, "home", "(I)I"⟩
def dkwX9_home_6 : List UInt8 := [154, 0, 7, 29, 167, 0, 5, 21, 4, 172]
abbrev dktX9_home_6 : List UInt8 := dkwX9_home_6 ++ []
def dkwX9_home_5 : List UInt8 := [128, 61, 42, 180, 0, 40, 5, 21, 6, 96, 46, 54, 6, 167, 255, 229, 132, 5, 1, 167, 255, 148, 27]
abbrev dktX9_home_5 : List UInt8 := dkwX9_home_5 ++ dktX9_home_6
def dkwX9_home_4 : List UInt8 := [167, 0, 4, 4, 96, 62, 21, 5, 54, 6, 28, 21, 6, 122, 4, 126, 154, 0, 24, 28, 4, 21, 6, 120]
abbrev dktX9_home_4 : List UInt8 := dkwX9_home_4 ++ dktX9_home_5
def dkwX9_home_3 : List UInt8 := [184, 0, 131, 96, 167, 0, 5, 21, 4, 54, 4, 29, 28, 21, 5, 122, 4, 126, 154, 0, 7, 3]
abbrev dktX9_home_3 : List UInt8 := dkwX9_home_3 ++ dktX9_home_4
def dkwX9_home_2 : List UInt8 := [180, 0, 40, 5, 21, 5, 96, 46, 21, 5, 159, 0, 21, 16, 10, 21, 5, 104, 42, 180, 0, 40, 21, 5]
abbrev dktX9_home_2 : List UInt8 := dkwX9_home_2 ++ dktX9_home_3
def dkwX9_home_1 : List UInt8 := [3, 54, 5, 21, 5, 42, 180, 0, 13, 3, 46, 162, 0, 103, 21, 4, 16, 247, 160, 0, 35, 42]
abbrev dktX9_home_1 : List UInt8 := dkwX9_home_1 ++ dktX9_home_2
def dkwX9_home_0 : List UInt8 := [42, 3, 181, 0, 68, 27, 3, 4, 184, 0, 72, 154, 0, 5, 2, 172, 3, 61, 3, 62, 16, 247, 54, 4]
abbrev dktX9_home_0 : List UInt8 := dkwX9_home_0 ++ dktX9_home_1
theorem dksX9_home_0 : cX9_home.data.toList.drop 0 = dktX9_home_0 := by decide +kernel
theorem dksX9_home_1 : cX9_home.data.toList.drop 24 = dktX9_home_1 := dk_seg dksX9_home_0 24 rfl rfl
theorem dksX9_home_2 : cX9_home.data.toList.drop 46 = dktX9_home_2 := dk_seg dksX9_home_1 22 rfl rfl
theorem dksX9_home_3 : cX9_home.data.toList.drop 70 = dktX9_home_3 := dk_seg dksX9_home_2 24 rfl rfl
theorem dksX9_home_4 : cX9_home.data.toList.drop 92 = dktX9_home_4 := dk_seg dksX9_home_3 22 rfl rfl
theorem dksX9_home_5 : cX9_home.data.toList.drop 116 = dktX9_home_5 := dk_seg dksX9_home_4 24 rfl rfl
theorem dksX9_home_6 : cX9_home.data.toList.drop 139 = dktX9_home_6 := dk_seg dksX9_home_5 23 rfl rfl
theorem dX9_home_0 : decode cX9_home 0 = .ok (.aload_n 0, 1) := dk_42 (dk_at dksX9_home_0 0 rfl rfl)
theorem dX9_home_1 : decode cX9_home 1 = .ok (.iconst 0, 1) := dk_3 (dk_at dksX9_home_0 1 rfl rfl)
theorem dX9_home_2 : decode cX9_home 2 = .ok (.putfield 68, 3) := dk_181 0 68 (dk_at dksX9_home_0 2 rfl rfl)
theorem dX9_home_5 : decode cX9_home 5 = .ok (.iload_n 1, 1) := dk_27 (dk_at dksX9_home_0 5 rfl rfl)
theorem dX9_home_6 : decode cX9_home 6 = .ok (.iconst 0, 1) := dk_3 (dk_at dksX9_home_0 6 rfl rfl)
theorem dX9_home_7 : decode cX9_home 7 = .ok (.iconst 1, 1) := dk_4 (dk_at dksX9_home_0 7 rfl rfl)
theorem dX9_home_8 : decode cX9_home 8 = .ok (.invokestatic 72, 3) := dk_184 0 72 (dk_at dksX9_home_0 8 rfl rfl)
theorem dX9_home_11 : decode cX9_home 11 = .ok (.ifCond .ne 5, 3) := dk_154 0 5 (dk_at dksX9_home_0 11 rfl rfl)
theorem dX9_home_14 : decode cX9_home 14 = .ok (.iconst (-1), 1) := dk_2 (dk_at dksX9_home_0 14 rfl rfl)
theorem dX9_home_15 : decode cX9_home 15 = .ok (.ireturn, 1) := dk_172 (dk_at dksX9_home_0 15 rfl rfl)
theorem dX9_home_16 : decode cX9_home 16 = .ok (.iconst 0, 1) := dk_3 (dk_at dksX9_home_0 16 rfl rfl)
theorem dX9_home_17 : decode cX9_home 17 = .ok (.istore_n 2, 1) := dk_61 (dk_at dksX9_home_0 17 rfl rfl)
theorem dX9_home_18 : decode cX9_home 18 = .ok (.iconst 0, 1) := dk_3 (dk_at dksX9_home_0 18 rfl rfl)
theorem dX9_home_19 : decode cX9_home 19 = .ok (.istore_n 3, 1) := dk_62 (dk_at dksX9_home_0 19 rfl rfl)
theorem dX9_home_20 : decode cX9_home 20 = .ok (.bipush (-9), 2) := dk_16 247 (dk_at dksX9_home_0 20 rfl rfl)
theorem dX9_home_22 : decode cX9_home 22 = .ok (.istore 4, 2) := dk_54 4 (dk_at dksX9_home_0 22 rfl rfl)
theorem dX9_home_24 : decode cX9_home 24 = .ok (.iconst 0, 1) := dk_3 (dk_at dksX9_home_1 0 rfl rfl)
theorem dX9_home_25 : decode cX9_home 25 = .ok (.istore 5, 2) := dk_54 5 (dk_at dksX9_home_1 1 rfl rfl)
theorem dX9_home_27 : decode cX9_home 27 = .ok (.iload 5, 2) := dk_21 5 (dk_at dksX9_home_1 3 rfl rfl)
theorem dX9_home_29 : decode cX9_home 29 = .ok (.aload_n 0, 1) := dk_42 (dk_at dksX9_home_1 5 rfl rfl)
theorem dX9_home_30 : decode cX9_home 30 = .ok (.getfield 13, 3) := dk_180 0 13 (dk_at dksX9_home_1 6 rfl rfl)
theorem dX9_home_33 : decode cX9_home 33 = .ok (.iconst 0, 1) := dk_3 (dk_at dksX9_home_1 9 rfl rfl)
theorem dX9_home_34 : decode cX9_home 34 = .ok (.iaload, 1) := dk_46 (dk_at dksX9_home_1 10 rfl rfl)
theorem dX9_home_35 : decode cX9_home 35 = .ok (.if_icmp .ge 103, 3) := dk_162 0 103 (dk_at dksX9_home_1 11 rfl rfl)
theorem dX9_home_38 : decode cX9_home 38 = .ok (.iload 4, 2) := dk_21 4 (dk_at dksX9_home_1 14 rfl rfl)
theorem dX9_home_40 : decode cX9_home 40 = .ok (.bipush (-9), 2) := dk_16 247 (dk_at dksX9_home_1 16 rfl rfl)
theorem dX9_home_42 : decode cX9_home 42 = .ok (.if_icmp .ne 35, 3) := dk_160 0 35 (dk_at dksX9_home_1 18 rfl rfl)
theorem dX9_home_45 : decode cX9_home 45 = .ok (.aload_n 0, 1) := dk_42 (dk_at dksX9_home_1 21 rfl rfl)
theorem dX9_home_46 : decode cX9_home 46 = .ok (.getfield 40, 3) := dk_180 0 40 (dk_at dksX9_home_2 0 rfl rfl)
theorem dX9_home_49 : decode cX9_home 49 = .ok (.iconst 2, 1) := dk_5 (dk_at dksX9_home_2 3 rfl rfl)
theorem dX9_home_50 : decode cX9_home 50 = .ok (.iload 5, 2) := dk_21 5 (dk_at dksX9_home_2 4 rfl rfl)
theorem dX9_home_52 : decode cX9_home 52 = .ok (.iadd, 1) := dk_96 (dk_at dksX9_home_2 6 rfl rfl)
theorem dX9_home_53 : decode cX9_home 53 = .ok (.iaload, 1) := dk_46 (dk_at dksX9_home_2 7 rfl rfl)
theorem dX9_home_54 : decode cX9_home 54 = .ok (.iload 5, 2) := dk_21 5 (dk_at dksX9_home_2 8 rfl rfl)
theorem dX9_home_56 : decode cX9_home 56 = .ok (.if_icmp .eq 21, 3) := dk_159 0 21 (dk_at dksX9_home_2 10 rfl rfl)
theorem dX9_home_59 : decode cX9_home 59 = .ok (.bipush 10, 2) := dk_16 10 (dk_at dksX9_home_2 13 rfl rfl)
theorem dX9_home_61 : decode cX9_home 61 = .ok (.iload 5, 2) := dk_21 5 (dk_at dksX9_home_2 15 rfl rfl)
theorem dX9_home_63 : decode cX9_home 63 = .ok (.imul, 1) := dk_104 (dk_at dksX9_home_2 17 rfl rfl)
theorem dX9_home_64 : decode cX9_home 64 = .ok (.aload_n 0, 1) := dk_42 (dk_at dksX9_home_2 18 rfl rfl)
theorem dX9_home_65 : decode cX9_home 65 = .ok (.getfield 40, 3) := dk_180 0 40 (dk_at dksX9_home_2 19 rfl rfl)
theorem dX9_home_68 : decode cX9_home 68 = .ok (.iload 5, 2) := dk_21 5 (dk_at dksX9_home_2 22 rfl rfl)
theorem dX9_home_70 : decode cX9_home 70 = .ok (.invokestatic 131, 3) := dk_184 0 131 (dk_at dksX9_home_3 0 rfl rfl)
theorem dX9_home_73 : decode cX9_home 73 = .ok (.iadd, 1) := dk_96 (dk_at dksX9_home_3 3 rfl rfl)
theorem dX9_home_74 : decode cX9_home 74 = .ok (.goto 5, 3) := dk_167 0 5 (dk_at dksX9_home_3 4 rfl rfl)
theorem dX9_home_77 : decode cX9_home 77 = .ok (.iload 4, 2) := dk_21 4 (dk_at dksX9_home_3 7 rfl rfl)
theorem dX9_home_79 : decode cX9_home 79 = .ok (.istore 4, 2) := dk_54 4 (dk_at dksX9_home_3 9 rfl rfl)
theorem dX9_home_81 : decode cX9_home 81 = .ok (.iload_n 3, 1) := dk_29 (dk_at dksX9_home_3 11 rfl rfl)
theorem dX9_home_82 : decode cX9_home 82 = .ok (.iload_n 2, 1) := dk_28 (dk_at dksX9_home_3 12 rfl rfl)
theorem dX9_home_83 : decode cX9_home 83 = .ok (.iload 5, 2) := dk_21 5 (dk_at dksX9_home_3 13 rfl rfl)
theorem dX9_home_85 : decode cX9_home 85 = .ok (.ishr, 1) := dk_122 (dk_at dksX9_home_3 15 rfl rfl)
theorem dX9_home_86 : decode cX9_home 86 = .ok (.iconst 1, 1) := dk_4 (dk_at dksX9_home_3 16 rfl rfl)
theorem dX9_home_87 : decode cX9_home 87 = .ok (.iand, 1) := dk_126 (dk_at dksX9_home_3 17 rfl rfl)
theorem dX9_home_88 : decode cX9_home 88 = .ok (.ifCond .ne 7, 3) := dk_154 0 7 (dk_at dksX9_home_3 18 rfl rfl)
theorem dX9_home_91 : decode cX9_home 91 = .ok (.iconst 0, 1) := dk_3 (dk_at dksX9_home_3 21 rfl rfl)
theorem dX9_home_92 : decode cX9_home 92 = .ok (.goto 4, 3) := dk_167 0 4 (dk_at dksX9_home_4 0 rfl rfl)
theorem dX9_home_95 : decode cX9_home 95 = .ok (.iconst 1, 1) := dk_4 (dk_at dksX9_home_4 3 rfl rfl)
theorem dX9_home_96 : decode cX9_home 96 = .ok (.iadd, 1) := dk_96 (dk_at dksX9_home_4 4 rfl rfl)
theorem dX9_home_97 : decode cX9_home 97 = .ok (.istore_n 3, 1) := dk_62 (dk_at dksX9_home_4 5 rfl rfl)
theorem dX9_home_98 : decode cX9_home 98 = .ok (.iload 5, 2) := dk_21 5 (dk_at dksX9_home_4 6 rfl rfl)
theorem dX9_home_100 : decode cX9_home 100 = .ok (.istore 6, 2) := dk_54 6 (dk_at dksX9_home_4 8 rfl rfl)
theorem dX9_home_102 : decode cX9_home 102 = .ok (.iload_n 2, 1) := dk_28 (dk_at dksX9_home_4 10 rfl rfl)
theorem dX9_home_103 : decode cX9_home 103 = .ok (.iload 6, 2) := dk_21 6 (dk_at dksX9_home_4 11 rfl rfl)
theorem dX9_home_105 : decode cX9_home 105 = .ok (.ishr, 1) := dk_122 (dk_at dksX9_home_4 13 rfl rfl)
theorem dX9_home_106 : decode cX9_home 106 = .ok (.iconst 1, 1) := dk_4 (dk_at dksX9_home_4 14 rfl rfl)
theorem dX9_home_107 : decode cX9_home 107 = .ok (.iand, 1) := dk_126 (dk_at dksX9_home_4 15 rfl rfl)
theorem dX9_home_108 : decode cX9_home 108 = .ok (.ifCond .ne 24, 3) := dk_154 0 24 (dk_at dksX9_home_4 16 rfl rfl)
theorem dX9_home_111 : decode cX9_home 111 = .ok (.iload_n 2, 1) := dk_28 (dk_at dksX9_home_4 19 rfl rfl)
theorem dX9_home_112 : decode cX9_home 112 = .ok (.iconst 1, 1) := dk_4 (dk_at dksX9_home_4 20 rfl rfl)
theorem dX9_home_113 : decode cX9_home 113 = .ok (.iload 6, 2) := dk_21 6 (dk_at dksX9_home_4 21 rfl rfl)
theorem dX9_home_115 : decode cX9_home 115 = .ok (.ishl, 1) := dk_120 (dk_at dksX9_home_4 23 rfl rfl)
theorem dX9_home_116 : decode cX9_home 116 = .ok (.ior, 1) := dk_128 (dk_at dksX9_home_5 0 rfl rfl)
theorem dX9_home_117 : decode cX9_home 117 = .ok (.istore_n 2, 1) := dk_61 (dk_at dksX9_home_5 1 rfl rfl)
theorem dX9_home_118 : decode cX9_home 118 = .ok (.aload_n 0, 1) := dk_42 (dk_at dksX9_home_5 2 rfl rfl)
theorem dX9_home_119 : decode cX9_home 119 = .ok (.getfield 40, 3) := dk_180 0 40 (dk_at dksX9_home_5 3 rfl rfl)
theorem dX9_home_122 : decode cX9_home 122 = .ok (.iconst 2, 1) := dk_5 (dk_at dksX9_home_5 6 rfl rfl)
theorem dX9_home_123 : decode cX9_home 123 = .ok (.iload 6, 2) := dk_21 6 (dk_at dksX9_home_5 7 rfl rfl)
theorem dX9_home_125 : decode cX9_home 125 = .ok (.iadd, 1) := dk_96 (dk_at dksX9_home_5 9 rfl rfl)
theorem dX9_home_126 : decode cX9_home 126 = .ok (.iaload, 1) := dk_46 (dk_at dksX9_home_5 10 rfl rfl)
theorem dX9_home_127 : decode cX9_home 127 = .ok (.istore 6, 2) := dk_54 6 (dk_at dksX9_home_5 11 rfl rfl)
theorem dX9_home_129 : decode cX9_home 129 = .ok (.goto (-27), 3) := dk_167 255 229 (dk_at dksX9_home_5 13 rfl rfl)
theorem dX9_home_132 : decode cX9_home 132 = .ok (.iinc 5 1, 3) := dk_132 5 1 (dk_at dksX9_home_5 16 rfl rfl)
theorem dX9_home_135 : decode cX9_home 135 = .ok (.goto (-108), 3) := dk_167 255 148 (dk_at dksX9_home_5 19 rfl rfl)
theorem dX9_home_138 : decode cX9_home 138 = .ok (.iload_n 1, 1) := dk_27 (dk_at dksX9_home_5 22 rfl rfl)
theorem dX9_home_139 : decode cX9_home 139 = .ok (.ifCond .ne 7, 3) := dk_154 0 7 (dk_at dksX9_home_6 0 rfl rfl)
theorem dX9_home_142 : decode cX9_home 142 = .ok (.iload_n 3, 1) := dk_29 (dk_at dksX9_home_6 3 rfl rfl)
theorem dX9_home_143 : decode cX9_home 143 = .ok (.goto 5, 3) := dk_167 0 5 (dk_at dksX9_home_6 4 rfl rfl)
theorem dX9_home_146 : decode cX9_home 146 = .ok (.iload 4, 2) := dk_21 4 (dk_at dksX9_home_6 7 rfl rfl)
theorem dX9_home_148 : decode cX9_home 148 = .ok (.ireturn, 1) := dk_172 (dk_at dksX9_home_6 9 rfl rfl)
abbrev cX9_hang : ByteArray := prog_13_method_39_code
def yX9_hang : MethodName := ⟨RX9, "hang", "(I)I"⟩
def dkwX9_hang_5 : List UInt8 := [167, 0, 9, 42, 180, 0, 65, 27, 46, 172]
abbrev dktX9_hang_5 : List UInt8 := dkwX9_hang_5 ++ []
def dkwX9_hang_4 : List UInt8 := [132, 3, 1, 167, 255, 183, 28, 18, 120, 160, 0, 8, 16, 247, 167, 0, 18, 27, 2, 160, 0, 7, 28]
abbrev dktX9_hang_4 : List UInt8 := dkwX9_hang_4 ++ dktX9_hang_5
def dkwX9_hang_3 : List UInt8 := [162, 0, 23, 42, 180, 0, 65, 21, 4, 42, 180, 0, 62, 21, 4, 46, 79, 132, 4, 1, 167, 255, 228]
abbrev dktX9_hang_3 : List UInt8 := dkwX9_hang_3 ++ dktX9_hang_4
def dkwX9_hang_2 : List UInt8 := [42, 182, 0, 175, 28, 162, 0, 42, 42, 182, 0, 175, 61, 3, 54, 4, 21, 4, 42, 180, 0, 13, 3, 46]
abbrev dktX9_hang_2 : List UInt8 := dkwX9_hang_2 ++ dktX9_hang_3
def dkwX9_hang_1 : List UInt8 := [62, 29, 42, 182, 0, 165, 162, 0, 71, 42, 29, 182, 0, 169, 153, 0, 57, 42, 182, 0, 172, 153, 0, 50]
abbrev dktX9_hang_1 : List UInt8 := dkwX9_hang_1 ++ dktX9_hang_2
def dkwX9_hang_0 : List UInt8 := [42, 3, 181, 0, 68, 27, 2, 159, 0, 13, 42, 27, 182, 0, 127, 154, 0, 5, 2, 172, 18, 120, 61, 3]
abbrev dktX9_hang_0 : List UInt8 := dkwX9_hang_0 ++ dktX9_hang_1
theorem dksX9_hang_0 : cX9_hang.data.toList.drop 0 = dktX9_hang_0 := by decide +kernel
theorem dksX9_hang_1 : cX9_hang.data.toList.drop 24 = dktX9_hang_1 := dk_seg dksX9_hang_0 24 rfl rfl
theorem dksX9_hang_2 : cX9_hang.data.toList.drop 48 = dktX9_hang_2 := dk_seg dksX9_hang_1 24 rfl rfl
theorem dksX9_hang_3 : cX9_hang.data.toList.drop 72 = dktX9_hang_3 := dk_seg dksX9_hang_2 24 rfl rfl
theorem dksX9_hang_4 : cX9_hang.data.toList.drop 95 = dktX9_hang_4 := dk_seg dksX9_hang_3 23 rfl rfl
theorem dksX9_hang_5 : cX9_hang.data.toList.drop 118 = dktX9_hang_5 := dk_seg dksX9_hang_4 23 rfl rfl
theorem dX9_hang_0 : decode cX9_hang 0 = .ok (.aload_n 0, 1) := dk_42 (dk_at dksX9_hang_0 0 rfl rfl)
theorem dX9_hang_1 : decode cX9_hang 1 = .ok (.iconst 0, 1) := dk_3 (dk_at dksX9_hang_0 1 rfl rfl)
theorem dX9_hang_2 : decode cX9_hang 2 = .ok (.putfield 68, 3) := dk_181 0 68 (dk_at dksX9_hang_0 2 rfl rfl)
theorem dX9_hang_5 : decode cX9_hang 5 = .ok (.iload_n 1, 1) := dk_27 (dk_at dksX9_hang_0 5 rfl rfl)
theorem dX9_hang_6 : decode cX9_hang 6 = .ok (.iconst (-1), 1) := dk_2 (dk_at dksX9_hang_0 6 rfl rfl)
theorem dX9_hang_7 : decode cX9_hang 7 = .ok (.if_icmp .eq 13, 3) := dk_159 0 13 (dk_at dksX9_hang_0 7 rfl rfl)
theorem dX9_hang_10 : decode cX9_hang 10 = .ok (.aload_n 0, 1) := dk_42 (dk_at dksX9_hang_0 10 rfl rfl)
theorem dX9_hang_11 : decode cX9_hang 11 = .ok (.iload_n 1, 1) := dk_27 (dk_at dksX9_hang_0 11 rfl rfl)
theorem dX9_hang_12 : decode cX9_hang 12 = .ok (.invokevirtual 127, 3) := dk_182 0 127 (dk_at dksX9_hang_0 12 rfl rfl)
theorem dX9_hang_15 : decode cX9_hang 15 = .ok (.ifCond .ne 5, 3) := dk_154 0 5 (dk_at dksX9_hang_0 15 rfl rfl)
theorem dX9_hang_18 : decode cX9_hang 18 = .ok (.iconst (-1), 1) := dk_2 (dk_at dksX9_hang_0 18 rfl rfl)
theorem dX9_hang_19 : decode cX9_hang 19 = .ok (.ireturn, 1) := dk_172 (dk_at dksX9_hang_0 19 rfl rfl)
theorem dX9_hang_20 : decode cX9_hang 20 = .ok (.ldc 120, 2) := dk_18 120 (dk_at dksX9_hang_0 20 rfl rfl)
theorem dX9_hang_22 : decode cX9_hang 22 = .ok (.istore_n 2, 1) := dk_61 (dk_at dksX9_hang_0 22 rfl rfl)
theorem dX9_hang_23 : decode cX9_hang 23 = .ok (.iconst 0, 1) := dk_3 (dk_at dksX9_hang_0 23 rfl rfl)
theorem dX9_hang_24 : decode cX9_hang 24 = .ok (.istore_n 3, 1) := dk_62 (dk_at dksX9_hang_1 0 rfl rfl)
theorem dX9_hang_25 : decode cX9_hang 25 = .ok (.iload_n 3, 1) := dk_29 (dk_at dksX9_hang_1 1 rfl rfl)
theorem dX9_hang_26 : decode cX9_hang 26 = .ok (.aload_n 0, 1) := dk_42 (dk_at dksX9_hang_1 2 rfl rfl)
theorem dX9_hang_27 : decode cX9_hang 27 = .ok (.invokevirtual 165, 3) := dk_182 0 165 (dk_at dksX9_hang_1 3 rfl rfl)
theorem dX9_hang_30 : decode cX9_hang 30 = .ok (.if_icmp .ge 71, 3) := dk_162 0 71 (dk_at dksX9_hang_1 6 rfl rfl)
theorem dX9_hang_33 : decode cX9_hang 33 = .ok (.aload_n 0, 1) := dk_42 (dk_at dksX9_hang_1 9 rfl rfl)
theorem dX9_hang_34 : decode cX9_hang 34 = .ok (.iload_n 3, 1) := dk_29 (dk_at dksX9_hang_1 10 rfl rfl)
theorem dX9_hang_35 : decode cX9_hang 35 = .ok (.invokevirtual 169, 3) := dk_182 0 169 (dk_at dksX9_hang_1 11 rfl rfl)
theorem dX9_hang_38 : decode cX9_hang 38 = .ok (.ifCond .eq 57, 3) := dk_153 0 57 (dk_at dksX9_hang_1 14 rfl rfl)
theorem dX9_hang_41 : decode cX9_hang 41 = .ok (.aload_n 0, 1) := dk_42 (dk_at dksX9_hang_1 17 rfl rfl)
theorem dX9_hang_42 : decode cX9_hang 42 = .ok (.invokevirtual 172, 3) := dk_182 0 172 (dk_at dksX9_hang_1 18 rfl rfl)
theorem dX9_hang_45 : decode cX9_hang 45 = .ok (.ifCond .eq 50, 3) := dk_153 0 50 (dk_at dksX9_hang_1 21 rfl rfl)
theorem dX9_hang_48 : decode cX9_hang 48 = .ok (.aload_n 0, 1) := dk_42 (dk_at dksX9_hang_2 0 rfl rfl)
theorem dX9_hang_49 : decode cX9_hang 49 = .ok (.invokevirtual 175, 3) := dk_182 0 175 (dk_at dksX9_hang_2 1 rfl rfl)
theorem dX9_hang_52 : decode cX9_hang 52 = .ok (.iload_n 2, 1) := dk_28 (dk_at dksX9_hang_2 4 rfl rfl)
theorem dX9_hang_53 : decode cX9_hang 53 = .ok (.if_icmp .ge 42, 3) := dk_162 0 42 (dk_at dksX9_hang_2 5 rfl rfl)
theorem dX9_hang_56 : decode cX9_hang 56 = .ok (.aload_n 0, 1) := dk_42 (dk_at dksX9_hang_2 8 rfl rfl)
theorem dX9_hang_57 : decode cX9_hang 57 = .ok (.invokevirtual 175, 3) := dk_182 0 175 (dk_at dksX9_hang_2 9 rfl rfl)
theorem dX9_hang_60 : decode cX9_hang 60 = .ok (.istore_n 2, 1) := dk_61 (dk_at dksX9_hang_2 12 rfl rfl)
theorem dX9_hang_61 : decode cX9_hang 61 = .ok (.iconst 0, 1) := dk_3 (dk_at dksX9_hang_2 13 rfl rfl)
theorem dX9_hang_62 : decode cX9_hang 62 = .ok (.istore 4, 2) := dk_54 4 (dk_at dksX9_hang_2 14 rfl rfl)
theorem dX9_hang_64 : decode cX9_hang 64 = .ok (.iload 4, 2) := dk_21 4 (dk_at dksX9_hang_2 16 rfl rfl)
theorem dX9_hang_66 : decode cX9_hang 66 = .ok (.aload_n 0, 1) := dk_42 (dk_at dksX9_hang_2 18 rfl rfl)
theorem dX9_hang_67 : decode cX9_hang 67 = .ok (.getfield 13, 3) := dk_180 0 13 (dk_at dksX9_hang_2 19 rfl rfl)
theorem dX9_hang_70 : decode cX9_hang 70 = .ok (.iconst 0, 1) := dk_3 (dk_at dksX9_hang_2 22 rfl rfl)
theorem dX9_hang_71 : decode cX9_hang 71 = .ok (.iaload, 1) := dk_46 (dk_at dksX9_hang_2 23 rfl rfl)
theorem dX9_hang_72 : decode cX9_hang 72 = .ok (.if_icmp .ge 23, 3) := dk_162 0 23 (dk_at dksX9_hang_3 0 rfl rfl)
theorem dX9_hang_75 : decode cX9_hang 75 = .ok (.aload_n 0, 1) := dk_42 (dk_at dksX9_hang_3 3 rfl rfl)
theorem dX9_hang_76 : decode cX9_hang 76 = .ok (.getfield 65, 3) := dk_180 0 65 (dk_at dksX9_hang_3 4 rfl rfl)
theorem dX9_hang_79 : decode cX9_hang 79 = .ok (.iload 4, 2) := dk_21 4 (dk_at dksX9_hang_3 7 rfl rfl)
theorem dX9_hang_81 : decode cX9_hang 81 = .ok (.aload_n 0, 1) := dk_42 (dk_at dksX9_hang_3 9 rfl rfl)
theorem dX9_hang_82 : decode cX9_hang 82 = .ok (.getfield 62, 3) := dk_180 0 62 (dk_at dksX9_hang_3 10 rfl rfl)
theorem dX9_hang_85 : decode cX9_hang 85 = .ok (.iload 4, 2) := dk_21 4 (dk_at dksX9_hang_3 13 rfl rfl)
theorem dX9_hang_87 : decode cX9_hang 87 = .ok (.iaload, 1) := dk_46 (dk_at dksX9_hang_3 15 rfl rfl)
theorem dX9_hang_88 : decode cX9_hang 88 = .ok (.iastore, 1) := dk_79 (dk_at dksX9_hang_3 16 rfl rfl)
theorem dX9_hang_89 : decode cX9_hang 89 = .ok (.iinc 4 1, 3) := dk_132 4 1 (dk_at dksX9_hang_3 17 rfl rfl)
theorem dX9_hang_92 : decode cX9_hang 92 = .ok (.goto (-28), 3) := dk_167 255 228 (dk_at dksX9_hang_3 20 rfl rfl)
theorem dX9_hang_95 : decode cX9_hang 95 = .ok (.iinc 3 1, 3) := dk_132 3 1 (dk_at dksX9_hang_4 0 rfl rfl)
theorem dX9_hang_98 : decode cX9_hang 98 = .ok (.goto (-73), 3) := dk_167 255 183 (dk_at dksX9_hang_4 3 rfl rfl)
theorem dX9_hang_101 : decode cX9_hang 101 = .ok (.iload_n 2, 1) := dk_28 (dk_at dksX9_hang_4 6 rfl rfl)
theorem dX9_hang_102 : decode cX9_hang 102 = .ok (.ldc 120, 2) := dk_18 120 (dk_at dksX9_hang_4 7 rfl rfl)
theorem dX9_hang_104 : decode cX9_hang 104 = .ok (.if_icmp .ne 8, 3) := dk_160 0 8 (dk_at dksX9_hang_4 9 rfl rfl)
theorem dX9_hang_107 : decode cX9_hang 107 = .ok (.bipush (-9), 2) := dk_16 247 (dk_at dksX9_hang_4 12 rfl rfl)
theorem dX9_hang_109 : decode cX9_hang 109 = .ok (.goto 18, 3) := dk_167 0 18 (dk_at dksX9_hang_4 14 rfl rfl)
theorem dX9_hang_112 : decode cX9_hang 112 = .ok (.iload_n 1, 1) := dk_27 (dk_at dksX9_hang_4 17 rfl rfl)
theorem dX9_hang_113 : decode cX9_hang 113 = .ok (.iconst (-1), 1) := dk_2 (dk_at dksX9_hang_4 18 rfl rfl)
theorem dX9_hang_114 : decode cX9_hang 114 = .ok (.if_icmp .ne 7, 3) := dk_160 0 7 (dk_at dksX9_hang_4 19 rfl rfl)
theorem dX9_hang_117 : decode cX9_hang 117 = .ok (.iload_n 2, 1) := dk_28 (dk_at dksX9_hang_4 22 rfl rfl)
theorem dX9_hang_118 : decode cX9_hang 118 = .ok (.goto 9, 3) := dk_167 0 9 (dk_at dksX9_hang_5 0 rfl rfl)
theorem dX9_hang_121 : decode cX9_hang 121 = .ok (.aload_n 0, 1) := dk_42 (dk_at dksX9_hang_5 3 rfl rfl)
theorem dX9_hang_122 : decode cX9_hang 122 = .ok (.getfield 65, 3) := dk_180 0 65 (dk_at dksX9_hang_5 4 rfl rfl)
theorem dX9_hang_125 : decode cX9_hang 125 = .ok (.iload_n 1, 1) := dk_27 (dk_at dksX9_hang_5 7 rfl rfl)
theorem dX9_hang_126 : decode cX9_hang 126 = .ok (.iaload, 1) := dk_46 (dk_at dksX9_hang_5 8 rfl rfl)
theorem dX9_hang_127 : decode cX9_hang 127 = .ok (.ireturn, 1) := dk_172 (dk_at dksX9_hang_5 9 rfl rfl)
abbrev cX9_rows : ByteArray := prog_13_method_36_code
def yX9_rows : MethodName := ⟨RX9, "rows", "()I"⟩
def dkwX9_rows_1 : List UInt8 := [132, 2, 1, 167, 255, 234, 27, 172]
abbrev dktX9_rows_1 : List UInt8 := dkwX9_rows_1 ++ []
def dkwX9_rows_0 : List UInt8 := [4, 60, 3, 61, 28, 42, 180, 0, 13, 3, 46, 162, 0, 18, 27, 42, 180, 0, 13, 3, 46, 104, 60]
abbrev dktX9_rows_0 : List UInt8 := dkwX9_rows_0 ++ dktX9_rows_1
theorem dksX9_rows_0 : cX9_rows.data.toList.drop 0 = dktX9_rows_0 := by decide +kernel
theorem dksX9_rows_1 : cX9_rows.data.toList.drop 23 = dktX9_rows_1 := dk_seg dksX9_rows_0 23 rfl rfl
theorem dX9_rows_0 : decode cX9_rows 0 = .ok (.iconst 1, 1) := dk_4 (dk_at dksX9_rows_0 0 rfl rfl)
theorem dX9_rows_1 : decode cX9_rows 1 = .ok (.istore_n 1, 1) := dk_60 (dk_at dksX9_rows_0 1 rfl rfl)
theorem dX9_rows_2 : decode cX9_rows 2 = .ok (.iconst 0, 1) := dk_3 (dk_at dksX9_rows_0 2 rfl rfl)
theorem dX9_rows_3 : decode cX9_rows 3 = .ok (.istore_n 2, 1) := dk_61 (dk_at dksX9_rows_0 3 rfl rfl)
theorem dX9_rows_4 : decode cX9_rows 4 = .ok (.iload_n 2, 1) := dk_28 (dk_at dksX9_rows_0 4 rfl rfl)
theorem dX9_rows_5 : decode cX9_rows 5 = .ok (.aload_n 0, 1) := dk_42 (dk_at dksX9_rows_0 5 rfl rfl)
theorem dX9_rows_6 : decode cX9_rows 6 = .ok (.getfield 13, 3) := dk_180 0 13 (dk_at dksX9_rows_0 6 rfl rfl)
theorem dX9_rows_9 : decode cX9_rows 9 = .ok (.iconst 0, 1) := dk_3 (dk_at dksX9_rows_0 9 rfl rfl)
theorem dX9_rows_10 : decode cX9_rows 10 = .ok (.iaload, 1) := dk_46 (dk_at dksX9_rows_0 10 rfl rfl)
theorem dX9_rows_11 : decode cX9_rows 11 = .ok (.if_icmp .ge 18, 3) := dk_162 0 18 (dk_at dksX9_rows_0 11 rfl rfl)
theorem dX9_rows_14 : decode cX9_rows 14 = .ok (.iload_n 1, 1) := dk_27 (dk_at dksX9_rows_0 14 rfl rfl)
theorem dX9_rows_15 : decode cX9_rows 15 = .ok (.aload_n 0, 1) := dk_42 (dk_at dksX9_rows_0 15 rfl rfl)
theorem dX9_rows_16 : decode cX9_rows 16 = .ok (.getfield 13, 3) := dk_180 0 13 (dk_at dksX9_rows_0 16 rfl rfl)
theorem dX9_rows_19 : decode cX9_rows 19 = .ok (.iconst 0, 1) := dk_3 (dk_at dksX9_rows_0 19 rfl rfl)
theorem dX9_rows_20 : decode cX9_rows 20 = .ok (.iaload, 1) := dk_46 (dk_at dksX9_rows_0 20 rfl rfl)
theorem dX9_rows_21 : decode cX9_rows 21 = .ok (.imul, 1) := dk_104 (dk_at dksX9_rows_0 21 rfl rfl)
theorem dX9_rows_22 : decode cX9_rows 22 = .ok (.istore_n 1, 1) := dk_60 (dk_at dksX9_rows_0 22 rfl rfl)
theorem dX9_rows_23 : decode cX9_rows 23 = .ok (.iinc 2 1, 3) := dk_132 2 1 (dk_at dksX9_rows_1 0 rfl rfl)
theorem dX9_rows_26 : decode cX9_rows 26 = .ok (.goto (-22), 3) := dk_167 255 234 (dk_at dksX9_rows_1 3 rfl rfl)
theorem dX9_rows_29 : decode cX9_rows 29 = .ok (.iload_n 1, 1) := dk_27 (dk_at dksX9_rows_1 6 rfl rfl)
theorem dX9_rows_30 : decode cX9_rows 30 = .ok (.ireturn, 1) := dk_172 (dk_at dksX9_rows_1 7 rfl rfl)
abbrev cX9_isRow : ByteArray := prog_13_method_35_code
def yX9_isRow : MethodName := ⟨RX9, "isRow", "(I)Z"⟩
def dkwX9_isRow_3 : List UInt8 := [54, 4, 29, 4, 42, 180, 0, 62, 21, 5, 46, 120, 128, 62, 132, 5, 255, 167, 255, 186, 21, 4, 172]
abbrev dktX9_isRow_3 : List UInt8 := dkwX9_isRow_3 ++ []
def dkwX9_isRow_2 : List UInt8 := [21, 4, 153, 0, 21, 29, 42, 180, 0, 62, 21, 5, 46, 122, 4, 126, 154, 0, 7, 4, 167, 0, 4, 3]
abbrev dktX9_isRow_2 : List UInt8 := dkwX9_isRow_2 ++ dktX9_isRow_3
def dkwX9_isRow_1 : List UInt8 := [180, 0, 62, 21, 5, 28, 42, 180, 0, 13, 3, 46, 112, 79, 28, 42, 180, 0, 13, 3, 46, 108, 61]
abbrev dktX9_isRow_1 : List UInt8 := dkwX9_isRow_1 ++ dktX9_isRow_2
def dkwX9_isRow_0 : List UInt8 := [27, 61, 3, 62, 4, 54, 4, 42, 180, 0, 13, 3, 46, 4, 100, 54, 5, 21, 5, 155, 0, 71, 42]
abbrev dktX9_isRow_0 : List UInt8 := dkwX9_isRow_0 ++ dktX9_isRow_1
theorem dksX9_isRow_0 : cX9_isRow.data.toList.drop 0 = dktX9_isRow_0 := by decide +kernel
theorem dksX9_isRow_1 : cX9_isRow.data.toList.drop 23 = dktX9_isRow_1 := dk_seg dksX9_isRow_0 23 rfl rfl
theorem dksX9_isRow_2 : cX9_isRow.data.toList.drop 46 = dktX9_isRow_2 := dk_seg dksX9_isRow_1 23 rfl rfl
theorem dksX9_isRow_3 : cX9_isRow.data.toList.drop 70 = dktX9_isRow_3 := dk_seg dksX9_isRow_2 24 rfl rfl
theorem dX9_isRow_0 : decode cX9_isRow 0 = .ok (.iload_n 1, 1) := dk_27 (dk_at dksX9_isRow_0 0 rfl rfl)
theorem dX9_isRow_1 : decode cX9_isRow 1 = .ok (.istore_n 2, 1) := dk_61 (dk_at dksX9_isRow_0 1 rfl rfl)
theorem dX9_isRow_2 : decode cX9_isRow 2 = .ok (.iconst 0, 1) := dk_3 (dk_at dksX9_isRow_0 2 rfl rfl)
theorem dX9_isRow_3 : decode cX9_isRow 3 = .ok (.istore_n 3, 1) := dk_62 (dk_at dksX9_isRow_0 3 rfl rfl)
theorem dX9_isRow_4 : decode cX9_isRow 4 = .ok (.iconst 1, 1) := dk_4 (dk_at dksX9_isRow_0 4 rfl rfl)
theorem dX9_isRow_5 : decode cX9_isRow 5 = .ok (.istore 4, 2) := dk_54 4 (dk_at dksX9_isRow_0 5 rfl rfl)
theorem dX9_isRow_7 : decode cX9_isRow 7 = .ok (.aload_n 0, 1) := dk_42 (dk_at dksX9_isRow_0 7 rfl rfl)
theorem dX9_isRow_8 : decode cX9_isRow 8 = .ok (.getfield 13, 3) := dk_180 0 13 (dk_at dksX9_isRow_0 8 rfl rfl)
theorem dX9_isRow_11 : decode cX9_isRow 11 = .ok (.iconst 0, 1) := dk_3 (dk_at dksX9_isRow_0 11 rfl rfl)
theorem dX9_isRow_12 : decode cX9_isRow 12 = .ok (.iaload, 1) := dk_46 (dk_at dksX9_isRow_0 12 rfl rfl)
theorem dX9_isRow_13 : decode cX9_isRow 13 = .ok (.iconst 1, 1) := dk_4 (dk_at dksX9_isRow_0 13 rfl rfl)
theorem dX9_isRow_14 : decode cX9_isRow 14 = .ok (.isub, 1) := dk_100 (dk_at dksX9_isRow_0 14 rfl rfl)
theorem dX9_isRow_15 : decode cX9_isRow 15 = .ok (.istore 5, 2) := dk_54 5 (dk_at dksX9_isRow_0 15 rfl rfl)
theorem dX9_isRow_17 : decode cX9_isRow 17 = .ok (.iload 5, 2) := dk_21 5 (dk_at dksX9_isRow_0 17 rfl rfl)
theorem dX9_isRow_19 : decode cX9_isRow 19 = .ok (.ifCond .lt 71, 3) := dk_155 0 71 (dk_at dksX9_isRow_0 19 rfl rfl)
theorem dX9_isRow_22 : decode cX9_isRow 22 = .ok (.aload_n 0, 1) := dk_42 (dk_at dksX9_isRow_0 22 rfl rfl)
theorem dX9_isRow_23 : decode cX9_isRow 23 = .ok (.getfield 62, 3) := dk_180 0 62 (dk_at dksX9_isRow_1 0 rfl rfl)
theorem dX9_isRow_26 : decode cX9_isRow 26 = .ok (.iload 5, 2) := dk_21 5 (dk_at dksX9_isRow_1 3 rfl rfl)
theorem dX9_isRow_28 : decode cX9_isRow 28 = .ok (.iload_n 2, 1) := dk_28 (dk_at dksX9_isRow_1 5 rfl rfl)
theorem dX9_isRow_29 : decode cX9_isRow 29 = .ok (.aload_n 0, 1) := dk_42 (dk_at dksX9_isRow_1 6 rfl rfl)
theorem dX9_isRow_30 : decode cX9_isRow 30 = .ok (.getfield 13, 3) := dk_180 0 13 (dk_at dksX9_isRow_1 7 rfl rfl)
theorem dX9_isRow_33 : decode cX9_isRow 33 = .ok (.iconst 0, 1) := dk_3 (dk_at dksX9_isRow_1 10 rfl rfl)
theorem dX9_isRow_34 : decode cX9_isRow 34 = .ok (.iaload, 1) := dk_46 (dk_at dksX9_isRow_1 11 rfl rfl)
theorem dX9_isRow_35 : decode cX9_isRow 35 = .ok (.irem, 1) := dk_112 (dk_at dksX9_isRow_1 12 rfl rfl)
theorem dX9_isRow_36 : decode cX9_isRow 36 = .ok (.iastore, 1) := dk_79 (dk_at dksX9_isRow_1 13 rfl rfl)
theorem dX9_isRow_37 : decode cX9_isRow 37 = .ok (.iload_n 2, 1) := dk_28 (dk_at dksX9_isRow_1 14 rfl rfl)
theorem dX9_isRow_38 : decode cX9_isRow 38 = .ok (.aload_n 0, 1) := dk_42 (dk_at dksX9_isRow_1 15 rfl rfl)
theorem dX9_isRow_39 : decode cX9_isRow 39 = .ok (.getfield 13, 3) := dk_180 0 13 (dk_at dksX9_isRow_1 16 rfl rfl)
theorem dX9_isRow_42 : decode cX9_isRow 42 = .ok (.iconst 0, 1) := dk_3 (dk_at dksX9_isRow_1 19 rfl rfl)
theorem dX9_isRow_43 : decode cX9_isRow 43 = .ok (.iaload, 1) := dk_46 (dk_at dksX9_isRow_1 20 rfl rfl)
theorem dX9_isRow_44 : decode cX9_isRow 44 = .ok (.idiv, 1) := dk_108 (dk_at dksX9_isRow_1 21 rfl rfl)
theorem dX9_isRow_45 : decode cX9_isRow 45 = .ok (.istore_n 2, 1) := dk_61 (dk_at dksX9_isRow_1 22 rfl rfl)
theorem dX9_isRow_46 : decode cX9_isRow 46 = .ok (.iload 4, 2) := dk_21 4 (dk_at dksX9_isRow_2 0 rfl rfl)
theorem dX9_isRow_48 : decode cX9_isRow 48 = .ok (.ifCond .eq 21, 3) := dk_153 0 21 (dk_at dksX9_isRow_2 2 rfl rfl)
theorem dX9_isRow_51 : decode cX9_isRow 51 = .ok (.iload_n 3, 1) := dk_29 (dk_at dksX9_isRow_2 5 rfl rfl)
theorem dX9_isRow_52 : decode cX9_isRow 52 = .ok (.aload_n 0, 1) := dk_42 (dk_at dksX9_isRow_2 6 rfl rfl)
theorem dX9_isRow_53 : decode cX9_isRow 53 = .ok (.getfield 62, 3) := dk_180 0 62 (dk_at dksX9_isRow_2 7 rfl rfl)
theorem dX9_isRow_56 : decode cX9_isRow 56 = .ok (.iload 5, 2) := dk_21 5 (dk_at dksX9_isRow_2 10 rfl rfl)
theorem dX9_isRow_58 : decode cX9_isRow 58 = .ok (.iaload, 1) := dk_46 (dk_at dksX9_isRow_2 12 rfl rfl)
theorem dX9_isRow_59 : decode cX9_isRow 59 = .ok (.ishr, 1) := dk_122 (dk_at dksX9_isRow_2 13 rfl rfl)
theorem dX9_isRow_60 : decode cX9_isRow 60 = .ok (.iconst 1, 1) := dk_4 (dk_at dksX9_isRow_2 14 rfl rfl)
theorem dX9_isRow_61 : decode cX9_isRow 61 = .ok (.iand, 1) := dk_126 (dk_at dksX9_isRow_2 15 rfl rfl)
theorem dX9_isRow_62 : decode cX9_isRow 62 = .ok (.ifCond .ne 7, 3) := dk_154 0 7 (dk_at dksX9_isRow_2 16 rfl rfl)
theorem dX9_isRow_65 : decode cX9_isRow 65 = .ok (.iconst 1, 1) := dk_4 (dk_at dksX9_isRow_2 19 rfl rfl)
theorem dX9_isRow_66 : decode cX9_isRow 66 = .ok (.goto 4, 3) := dk_167 0 4 (dk_at dksX9_isRow_2 20 rfl rfl)
theorem dX9_isRow_69 : decode cX9_isRow 69 = .ok (.iconst 0, 1) := dk_3 (dk_at dksX9_isRow_2 23 rfl rfl)
theorem dX9_isRow_70 : decode cX9_isRow 70 = .ok (.istore 4, 2) := dk_54 4 (dk_at dksX9_isRow_3 0 rfl rfl)
theorem dX9_isRow_72 : decode cX9_isRow 72 = .ok (.iload_n 3, 1) := dk_29 (dk_at dksX9_isRow_3 2 rfl rfl)
theorem dX9_isRow_73 : decode cX9_isRow 73 = .ok (.iconst 1, 1) := dk_4 (dk_at dksX9_isRow_3 3 rfl rfl)
theorem dX9_isRow_74 : decode cX9_isRow 74 = .ok (.aload_n 0, 1) := dk_42 (dk_at dksX9_isRow_3 4 rfl rfl)
theorem dX9_isRow_75 : decode cX9_isRow 75 = .ok (.getfield 62, 3) := dk_180 0 62 (dk_at dksX9_isRow_3 5 rfl rfl)
theorem dX9_isRow_78 : decode cX9_isRow 78 = .ok (.iload 5, 2) := dk_21 5 (dk_at dksX9_isRow_3 8 rfl rfl)
theorem dX9_isRow_80 : decode cX9_isRow 80 = .ok (.iaload, 1) := dk_46 (dk_at dksX9_isRow_3 10 rfl rfl)
theorem dX9_isRow_81 : decode cX9_isRow 81 = .ok (.ishl, 1) := dk_120 (dk_at dksX9_isRow_3 11 rfl rfl)
theorem dX9_isRow_82 : decode cX9_isRow 82 = .ok (.ior, 1) := dk_128 (dk_at dksX9_isRow_3 12 rfl rfl)
theorem dX9_isRow_83 : decode cX9_isRow 83 = .ok (.istore_n 3, 1) := dk_62 (dk_at dksX9_isRow_3 13 rfl rfl)
theorem dX9_isRow_84 : decode cX9_isRow 84 = .ok (.iinc 5 (-1), 3) := dk_132 5 255 (dk_at dksX9_isRow_3 14 rfl rfl)
theorem dX9_isRow_87 : decode cX9_isRow 87 = .ok (.goto (-70), 3) := dk_167 255 186 (dk_at dksX9_isRow_3 17 rfl rfl)
theorem dX9_isRow_90 : decode cX9_isRow 90 = .ok (.iload 4, 2) := dk_21 4 (dk_at dksX9_isRow_3 20 rfl rfl)
theorem dX9_isRow_92 : decode cX9_isRow 92 = .ok (.ireturn, 1) := dk_172 (dk_at dksX9_isRow_3 22 rfl rfl)
abbrev cX9_isBorne : ByteArray := prog_13_method_37_code
def yX9_isBorne : MethodName := ⟨RX9, "isBorne", "()Z"⟩
def dkwX9_isBorne_2 : List UInt8 := [132, 2, 1, 167, 255, 210, 27, 172]
abbrev dktX9_isBorne_2 : List UInt8 := dkwX9_isBorne_2 ++ []
def dkwX9_isBorne_1 : List UInt8 := [28, 96, 46, 42, 180, 0, 19, 42, 180, 0, 62, 28, 46, 46, 161, 0, 7, 4, 167, 0, 4, 3, 60]
abbrev dktX9_isBorne_1 : List UInt8 := dkwX9_isBorne_1 ++ dktX9_isBorne_2
def dkwX9_isBorne_0 : List UInt8 := [4, 60, 3, 61, 28, 42, 180, 0, 13, 3, 46, 162, 0, 42, 27, 153, 0, 30, 42, 180, 0, 40, 16, 8]
abbrev dktX9_isBorne_0 : List UInt8 := dkwX9_isBorne_0 ++ dktX9_isBorne_1
theorem dksX9_isBorne_0 : cX9_isBorne.data.toList.drop 0 = dktX9_isBorne_0 := by decide +kernel
theorem dksX9_isBorne_1 : cX9_isBorne.data.toList.drop 24 = dktX9_isBorne_1 := dk_seg dksX9_isBorne_0 24 rfl rfl
theorem dksX9_isBorne_2 : cX9_isBorne.data.toList.drop 47 = dktX9_isBorne_2 := dk_seg dksX9_isBorne_1 23 rfl rfl
theorem dX9_isBorne_0 : decode cX9_isBorne 0 = .ok (.iconst 1, 1) := dk_4 (dk_at dksX9_isBorne_0 0 rfl rfl)
theorem dX9_isBorne_1 : decode cX9_isBorne 1 = .ok (.istore_n 1, 1) := dk_60 (dk_at dksX9_isBorne_0 1 rfl rfl)
theorem dX9_isBorne_2 : decode cX9_isBorne 2 = .ok (.iconst 0, 1) := dk_3 (dk_at dksX9_isBorne_0 2 rfl rfl)
theorem dX9_isBorne_3 : decode cX9_isBorne 3 = .ok (.istore_n 2, 1) := dk_61 (dk_at dksX9_isBorne_0 3 rfl rfl)
theorem dX9_isBorne_4 : decode cX9_isBorne 4 = .ok (.iload_n 2, 1) := dk_28 (dk_at dksX9_isBorne_0 4 rfl rfl)
theorem dX9_isBorne_5 : decode cX9_isBorne 5 = .ok (.aload_n 0, 1) := dk_42 (dk_at dksX9_isBorne_0 5 rfl rfl)
theorem dX9_isBorne_6 : decode cX9_isBorne 6 = .ok (.getfield 13, 3) := dk_180 0 13 (dk_at dksX9_isBorne_0 6 rfl rfl)
theorem dX9_isBorne_9 : decode cX9_isBorne 9 = .ok (.iconst 0, 1) := dk_3 (dk_at dksX9_isBorne_0 9 rfl rfl)
theorem dX9_isBorne_10 : decode cX9_isBorne 10 = .ok (.iaload, 1) := dk_46 (dk_at dksX9_isBorne_0 10 rfl rfl)
theorem dX9_isBorne_11 : decode cX9_isBorne 11 = .ok (.if_icmp .ge 42, 3) := dk_162 0 42 (dk_at dksX9_isBorne_0 11 rfl rfl)
theorem dX9_isBorne_14 : decode cX9_isBorne 14 = .ok (.iload_n 1, 1) := dk_27 (dk_at dksX9_isBorne_0 14 rfl rfl)
theorem dX9_isBorne_15 : decode cX9_isBorne 15 = .ok (.ifCond .eq 30, 3) := dk_153 0 30 (dk_at dksX9_isBorne_0 15 rfl rfl)
theorem dX9_isBorne_18 : decode cX9_isBorne 18 = .ok (.aload_n 0, 1) := dk_42 (dk_at dksX9_isBorne_0 18 rfl rfl)
theorem dX9_isBorne_19 : decode cX9_isBorne 19 = .ok (.getfield 40, 3) := dk_180 0 40 (dk_at dksX9_isBorne_0 19 rfl rfl)
theorem dX9_isBorne_22 : decode cX9_isBorne 22 = .ok (.bipush 8, 2) := dk_16 8 (dk_at dksX9_isBorne_0 22 rfl rfl)
theorem dX9_isBorne_24 : decode cX9_isBorne 24 = .ok (.iload_n 2, 1) := dk_28 (dk_at dksX9_isBorne_1 0 rfl rfl)
theorem dX9_isBorne_25 : decode cX9_isBorne 25 = .ok (.iadd, 1) := dk_96 (dk_at dksX9_isBorne_1 1 rfl rfl)
theorem dX9_isBorne_26 : decode cX9_isBorne 26 = .ok (.iaload, 1) := dk_46 (dk_at dksX9_isBorne_1 2 rfl rfl)
theorem dX9_isBorne_27 : decode cX9_isBorne 27 = .ok (.aload_n 0, 1) := dk_42 (dk_at dksX9_isBorne_1 3 rfl rfl)
theorem dX9_isBorne_28 : decode cX9_isBorne 28 = .ok (.getfield 19, 3) := dk_180 0 19 (dk_at dksX9_isBorne_1 4 rfl rfl)
theorem dX9_isBorne_31 : decode cX9_isBorne 31 = .ok (.aload_n 0, 1) := dk_42 (dk_at dksX9_isBorne_1 7 rfl rfl)
theorem dX9_isBorne_32 : decode cX9_isBorne 32 = .ok (.getfield 62, 3) := dk_180 0 62 (dk_at dksX9_isBorne_1 8 rfl rfl)
theorem dX9_isBorne_35 : decode cX9_isBorne 35 = .ok (.iload_n 2, 1) := dk_28 (dk_at dksX9_isBorne_1 11 rfl rfl)
theorem dX9_isBorne_36 : decode cX9_isBorne 36 = .ok (.iaload, 1) := dk_46 (dk_at dksX9_isBorne_1 12 rfl rfl)
theorem dX9_isBorne_37 : decode cX9_isBorne 37 = .ok (.iaload, 1) := dk_46 (dk_at dksX9_isBorne_1 13 rfl rfl)
theorem dX9_isBorne_38 : decode cX9_isBorne 38 = .ok (.if_icmp .lt 7, 3) := dk_161 0 7 (dk_at dksX9_isBorne_1 14 rfl rfl)
theorem dX9_isBorne_41 : decode cX9_isBorne 41 = .ok (.iconst 1, 1) := dk_4 (dk_at dksX9_isBorne_1 17 rfl rfl)
theorem dX9_isBorne_42 : decode cX9_isBorne 42 = .ok (.goto 4, 3) := dk_167 0 4 (dk_at dksX9_isBorne_1 18 rfl rfl)
theorem dX9_isBorne_45 : decode cX9_isBorne 45 = .ok (.iconst 0, 1) := dk_3 (dk_at dksX9_isBorne_1 21 rfl rfl)
theorem dX9_isBorne_46 : decode cX9_isBorne 46 = .ok (.istore_n 1, 1) := dk_60 (dk_at dksX9_isBorne_1 22 rfl rfl)
theorem dX9_isBorne_47 : decode cX9_isBorne 47 = .ok (.iinc 2 1, 3) := dk_132 2 1 (dk_at dksX9_isBorne_2 0 rfl rfl)
theorem dX9_isBorne_50 : decode cX9_isBorne 50 = .ok (.goto (-46), 3) := dk_167 255 210 (dk_at dksX9_isBorne_2 3 rfl rfl)
theorem dX9_isBorne_53 : decode cX9_isBorne 53 = .ok (.iload_n 1, 1) := dk_27 (dk_at dksX9_isBorne_2 6 rfl rfl)
theorem dX9_isBorne_54 : decode cX9_isBorne 54 = .ok (.ireturn, 1) := dk_172 (dk_at dksX9_isBorne_2 7 rfl rfl)
abbrev cX9_costOfRow : ByteArray := prog_13_method_38_code
def yX9_costOfRow : MethodName := ⟨RX9, "costOfRow", "()I"⟩
def dkwX9_costOfRow_3 : List UInt8 := [132, 2, 1, 167, 255, 186, 27, 172]
abbrev dktX9_costOfRow_3 : List UInt8 := dkwX9_costOfRow_3 ++ []
def dkwX9_costOfRow_2 : List UInt8 := [161, 0, 8, 18, 120, 167, 0, 18, 27, 42, 180, 0, 19, 42, 180, 0, 62, 28, 46, 46, 29, 104, 96, 60]
abbrev dktX9_costOfRow_2 : List UInt8 := dkwX9_costOfRow_2 ++ dktX9_costOfRow_3
def dkwX9_costOfRow_1 : List UInt8 := [42, 180, 0, 62, 28, 46, 184, 0, 131, 104, 28, 96, 46, 62, 29, 18, 120, 162, 0, 9, 27, 18, 120]
abbrev dktX9_costOfRow_1 : List UInt8 := dkwX9_costOfRow_1 ++ dktX9_costOfRow_2
def dkwX9_costOfRow_0 : List UInt8 := [3, 60, 3, 61, 28, 42, 180, 0, 13, 3, 46, 162, 0, 66, 42, 180, 0, 37, 16, 6, 42, 180, 0, 40]
abbrev dktX9_costOfRow_0 : List UInt8 := dkwX9_costOfRow_0 ++ dktX9_costOfRow_1
theorem dksX9_costOfRow_0 : cX9_costOfRow.data.toList.drop 0 = dktX9_costOfRow_0 := by decide +kernel
theorem dksX9_costOfRow_1 : cX9_costOfRow.data.toList.drop 24 = dktX9_costOfRow_1 := dk_seg dksX9_costOfRow_0 24 rfl rfl
theorem dksX9_costOfRow_2 : cX9_costOfRow.data.toList.drop 47 = dktX9_costOfRow_2 := dk_seg dksX9_costOfRow_1 23 rfl rfl
theorem dksX9_costOfRow_3 : cX9_costOfRow.data.toList.drop 71 = dktX9_costOfRow_3 := dk_seg dksX9_costOfRow_2 24 rfl rfl
theorem dX9_costOfRow_0 : decode cX9_costOfRow 0 = .ok (.iconst 0, 1) := dk_3 (dk_at dksX9_costOfRow_0 0 rfl rfl)
theorem dX9_costOfRow_1 : decode cX9_costOfRow 1 = .ok (.istore_n 1, 1) := dk_60 (dk_at dksX9_costOfRow_0 1 rfl rfl)
theorem dX9_costOfRow_2 : decode cX9_costOfRow 2 = .ok (.iconst 0, 1) := dk_3 (dk_at dksX9_costOfRow_0 2 rfl rfl)
theorem dX9_costOfRow_3 : decode cX9_costOfRow 3 = .ok (.istore_n 2, 1) := dk_61 (dk_at dksX9_costOfRow_0 3 rfl rfl)
theorem dX9_costOfRow_4 : decode cX9_costOfRow 4 = .ok (.iload_n 2, 1) := dk_28 (dk_at dksX9_costOfRow_0 4 rfl rfl)
theorem dX9_costOfRow_5 : decode cX9_costOfRow 5 = .ok (.aload_n 0, 1) := dk_42 (dk_at dksX9_costOfRow_0 5 rfl rfl)
theorem dX9_costOfRow_6 : decode cX9_costOfRow 6 = .ok (.getfield 13, 3) := dk_180 0 13 (dk_at dksX9_costOfRow_0 6 rfl rfl)
theorem dX9_costOfRow_9 : decode cX9_costOfRow 9 = .ok (.iconst 0, 1) := dk_3 (dk_at dksX9_costOfRow_0 9 rfl rfl)
theorem dX9_costOfRow_10 : decode cX9_costOfRow 10 = .ok (.iaload, 1) := dk_46 (dk_at dksX9_costOfRow_0 10 rfl rfl)
theorem dX9_costOfRow_11 : decode cX9_costOfRow 11 = .ok (.if_icmp .ge 66, 3) := dk_162 0 66 (dk_at dksX9_costOfRow_0 11 rfl rfl)
theorem dX9_costOfRow_14 : decode cX9_costOfRow 14 = .ok (.aload_n 0, 1) := dk_42 (dk_at dksX9_costOfRow_0 14 rfl rfl)
theorem dX9_costOfRow_15 : decode cX9_costOfRow 15 = .ok (.getfield 37, 3) := dk_180 0 37 (dk_at dksX9_costOfRow_0 15 rfl rfl)
theorem dX9_costOfRow_18 : decode cX9_costOfRow 18 = .ok (.bipush 6, 2) := dk_16 6 (dk_at dksX9_costOfRow_0 18 rfl rfl)
theorem dX9_costOfRow_20 : decode cX9_costOfRow 20 = .ok (.aload_n 0, 1) := dk_42 (dk_at dksX9_costOfRow_0 20 rfl rfl)
theorem dX9_costOfRow_21 : decode cX9_costOfRow 21 = .ok (.getfield 40, 3) := dk_180 0 40 (dk_at dksX9_costOfRow_0 21 rfl rfl)
theorem dX9_costOfRow_24 : decode cX9_costOfRow 24 = .ok (.aload_n 0, 1) := dk_42 (dk_at dksX9_costOfRow_1 0 rfl rfl)
theorem dX9_costOfRow_25 : decode cX9_costOfRow 25 = .ok (.getfield 62, 3) := dk_180 0 62 (dk_at dksX9_costOfRow_1 1 rfl rfl)
theorem dX9_costOfRow_28 : decode cX9_costOfRow 28 = .ok (.iload_n 2, 1) := dk_28 (dk_at dksX9_costOfRow_1 4 rfl rfl)
theorem dX9_costOfRow_29 : decode cX9_costOfRow 29 = .ok (.iaload, 1) := dk_46 (dk_at dksX9_costOfRow_1 5 rfl rfl)
theorem dX9_costOfRow_30 : decode cX9_costOfRow 30 = .ok (.invokestatic 131, 3) := dk_184 0 131 (dk_at dksX9_costOfRow_1 6 rfl rfl)
theorem dX9_costOfRow_33 : decode cX9_costOfRow 33 = .ok (.imul, 1) := dk_104 (dk_at dksX9_costOfRow_1 9 rfl rfl)
theorem dX9_costOfRow_34 : decode cX9_costOfRow 34 = .ok (.iload_n 2, 1) := dk_28 (dk_at dksX9_costOfRow_1 10 rfl rfl)
theorem dX9_costOfRow_35 : decode cX9_costOfRow 35 = .ok (.iadd, 1) := dk_96 (dk_at dksX9_costOfRow_1 11 rfl rfl)
theorem dX9_costOfRow_36 : decode cX9_costOfRow 36 = .ok (.iaload, 1) := dk_46 (dk_at dksX9_costOfRow_1 12 rfl rfl)
theorem dX9_costOfRow_37 : decode cX9_costOfRow 37 = .ok (.istore_n 3, 1) := dk_62 (dk_at dksX9_costOfRow_1 13 rfl rfl)
theorem dX9_costOfRow_38 : decode cX9_costOfRow 38 = .ok (.iload_n 3, 1) := dk_29 (dk_at dksX9_costOfRow_1 14 rfl rfl)
theorem dX9_costOfRow_39 : decode cX9_costOfRow 39 = .ok (.ldc 120, 2) := dk_18 120 (dk_at dksX9_costOfRow_1 15 rfl rfl)
theorem dX9_costOfRow_41 : decode cX9_costOfRow 41 = .ok (.if_icmp .ge 9, 3) := dk_162 0 9 (dk_at dksX9_costOfRow_1 17 rfl rfl)
theorem dX9_costOfRow_44 : decode cX9_costOfRow 44 = .ok (.iload_n 1, 1) := dk_27 (dk_at dksX9_costOfRow_1 20 rfl rfl)
theorem dX9_costOfRow_45 : decode cX9_costOfRow 45 = .ok (.ldc 120, 2) := dk_18 120 (dk_at dksX9_costOfRow_1 21 rfl rfl)
theorem dX9_costOfRow_47 : decode cX9_costOfRow 47 = .ok (.if_icmp .lt 8, 3) := dk_161 0 8 (dk_at dksX9_costOfRow_2 0 rfl rfl)
theorem dX9_costOfRow_50 : decode cX9_costOfRow 50 = .ok (.ldc 120, 2) := dk_18 120 (dk_at dksX9_costOfRow_2 3 rfl rfl)
theorem dX9_costOfRow_52 : decode cX9_costOfRow 52 = .ok (.goto 18, 3) := dk_167 0 18 (dk_at dksX9_costOfRow_2 5 rfl rfl)
theorem dX9_costOfRow_55 : decode cX9_costOfRow 55 = .ok (.iload_n 1, 1) := dk_27 (dk_at dksX9_costOfRow_2 8 rfl rfl)
theorem dX9_costOfRow_56 : decode cX9_costOfRow 56 = .ok (.aload_n 0, 1) := dk_42 (dk_at dksX9_costOfRow_2 9 rfl rfl)
theorem dX9_costOfRow_57 : decode cX9_costOfRow 57 = .ok (.getfield 19, 3) := dk_180 0 19 (dk_at dksX9_costOfRow_2 10 rfl rfl)
theorem dX9_costOfRow_60 : decode cX9_costOfRow 60 = .ok (.aload_n 0, 1) := dk_42 (dk_at dksX9_costOfRow_2 13 rfl rfl)
theorem dX9_costOfRow_61 : decode cX9_costOfRow 61 = .ok (.getfield 62, 3) := dk_180 0 62 (dk_at dksX9_costOfRow_2 14 rfl rfl)
theorem dX9_costOfRow_64 : decode cX9_costOfRow 64 = .ok (.iload_n 2, 1) := dk_28 (dk_at dksX9_costOfRow_2 17 rfl rfl)
theorem dX9_costOfRow_65 : decode cX9_costOfRow 65 = .ok (.iaload, 1) := dk_46 (dk_at dksX9_costOfRow_2 18 rfl rfl)
theorem dX9_costOfRow_66 : decode cX9_costOfRow 66 = .ok (.iaload, 1) := dk_46 (dk_at dksX9_costOfRow_2 19 rfl rfl)
theorem dX9_costOfRow_67 : decode cX9_costOfRow 67 = .ok (.iload_n 3, 1) := dk_29 (dk_at dksX9_costOfRow_2 20 rfl rfl)
theorem dX9_costOfRow_68 : decode cX9_costOfRow 68 = .ok (.imul, 1) := dk_104 (dk_at dksX9_costOfRow_2 21 rfl rfl)
theorem dX9_costOfRow_69 : decode cX9_costOfRow 69 = .ok (.iadd, 1) := dk_96 (dk_at dksX9_costOfRow_2 22 rfl rfl)
theorem dX9_costOfRow_70 : decode cX9_costOfRow 70 = .ok (.istore_n 1, 1) := dk_60 (dk_at dksX9_costOfRow_2 23 rfl rfl)
theorem dX9_costOfRow_71 : decode cX9_costOfRow 71 = .ok (.iinc 2 1, 3) := dk_132 2 1 (dk_at dksX9_costOfRow_3 0 rfl rfl)
theorem dX9_costOfRow_74 : decode cX9_costOfRow 74 = .ok (.goto (-70), 3) := dk_167 255 186 (dk_at dksX9_costOfRow_3 3 rfl rfl)
theorem dX9_costOfRow_77 : decode cX9_costOfRow 77 = .ok (.iload_n 1, 1) := dk_27 (dk_at dksX9_costOfRow_3 6 rfl rfl)
theorem dX9_costOfRow_78 : decode cX9_costOfRow 78 = .ok (.ireturn, 1) := dk_172 (dk_at dksX9_costOfRow_3 7 rfl rfl)
abbrev cX9_round : ByteArray := prog_13_method_40_code
def yX9_round : MethodName := ⟨RX9, "round", "(I)I"⟩
def dkwX9_round_5 : List UInt8 := [62, 132, 4, 1, 167, 255, 201, 167, 255, 186, 28, 172]
abbrev dktX9_round_5 : List UInt8 := dkwX9_round_5 ++ []
def dkwX9_round_4 : List UInt8 := [46, 46, 79, 29, 154, 0, 15, 42, 180, 0, 65, 21, 4, 46, 21, 4, 159, 0, 7, 4, 167, 0, 4, 3]
abbrev dktX9_round_4 : List UInt8 := dkwX9_round_4 ++ dktX9_round_5
def dkwX9_round_3 : List UInt8 := [180, 0, 13, 3, 46, 162, 0, 50, 42, 180, 0, 65, 21, 4, 42, 180, 0, 62, 42, 180, 0, 65, 21, 4]
abbrev dktX9_round_3 : List UInt8 := dkwX9_round_3 ++ dktX9_round_4
def dkwX9_round_2 : List UInt8 := [21, 4, 79, 132, 4, 1, 167, 255, 233, 29, 153, 0, 72, 132, 2, 1, 3, 62, 3, 54, 4, 21, 4, 42]
abbrev dktX9_round_2 : List UInt8 := dkwX9_round_2 ++ dktX9_round_3
def dkwX9_round_1 : List UInt8 := [61, 4, 62, 3, 54, 4, 21, 4, 42, 180, 0, 13, 3, 46, 162, 0, 18, 42, 180, 0, 65, 21, 4]
abbrev dktX9_round_1 : List UInt8 := dkwX9_round_1 ++ dktX9_round_2
def dkwX9_round_0 : List UInt8 := [42, 3, 181, 0, 68, 27, 3, 17, 39, 15, 184, 0, 72, 154, 0, 5, 2, 172, 42, 27, 182, 0, 149, 3]
abbrev dktX9_round_0 : List UInt8 := dkwX9_round_0 ++ dktX9_round_1
theorem dksX9_round_0 : cX9_round.data.toList.drop 0 = dktX9_round_0 := by decide +kernel
theorem dksX9_round_1 : cX9_round.data.toList.drop 24 = dktX9_round_1 := dk_seg dksX9_round_0 24 rfl rfl
theorem dksX9_round_2 : cX9_round.data.toList.drop 47 = dktX9_round_2 := dk_seg dksX9_round_1 23 rfl rfl
theorem dksX9_round_3 : cX9_round.data.toList.drop 71 = dktX9_round_3 := dk_seg dksX9_round_2 24 rfl rfl
theorem dksX9_round_4 : cX9_round.data.toList.drop 95 = dktX9_round_4 := dk_seg dksX9_round_3 24 rfl rfl
theorem dksX9_round_5 : cX9_round.data.toList.drop 119 = dktX9_round_5 := dk_seg dksX9_round_4 24 rfl rfl
theorem dX9_round_0 : decode cX9_round 0 = .ok (.aload_n 0, 1) := dk_42 (dk_at dksX9_round_0 0 rfl rfl)
theorem dX9_round_1 : decode cX9_round 1 = .ok (.iconst 0, 1) := dk_3 (dk_at dksX9_round_0 1 rfl rfl)
theorem dX9_round_2 : decode cX9_round 2 = .ok (.putfield 68, 3) := dk_181 0 68 (dk_at dksX9_round_0 2 rfl rfl)
theorem dX9_round_5 : decode cX9_round 5 = .ok (.iload_n 1, 1) := dk_27 (dk_at dksX9_round_0 5 rfl rfl)
theorem dX9_round_6 : decode cX9_round 6 = .ok (.iconst 0, 1) := dk_3 (dk_at dksX9_round_0 6 rfl rfl)
theorem dX9_round_7 : decode cX9_round 7 = .ok (.sipush 9999, 3) := dk_17 39 15 (dk_at dksX9_round_0 7 rfl rfl)
theorem dX9_round_10 : decode cX9_round 10 = .ok (.invokestatic 72, 3) := dk_184 0 72 (dk_at dksX9_round_0 10 rfl rfl)
theorem dX9_round_13 : decode cX9_round 13 = .ok (.ifCond .ne 5, 3) := dk_154 0 5 (dk_at dksX9_round_0 13 rfl rfl)
theorem dX9_round_16 : decode cX9_round 16 = .ok (.iconst (-1), 1) := dk_2 (dk_at dksX9_round_0 16 rfl rfl)
theorem dX9_round_17 : decode cX9_round 17 = .ok (.ireturn, 1) := dk_172 (dk_at dksX9_round_0 17 rfl rfl)
theorem dX9_round_18 : decode cX9_round 18 = .ok (.aload_n 0, 1) := dk_42 (dk_at dksX9_round_0 18 rfl rfl)
theorem dX9_round_19 : decode cX9_round 19 = .ok (.iload_n 1, 1) := dk_27 (dk_at dksX9_round_0 19 rfl rfl)
theorem dX9_round_20 : decode cX9_round 20 = .ok (.invokevirtual 149, 3) := dk_182 0 149 (dk_at dksX9_round_0 20 rfl rfl)
theorem dX9_round_23 : decode cX9_round 23 = .ok (.iconst 0, 1) := dk_3 (dk_at dksX9_round_0 23 rfl rfl)
theorem dX9_round_24 : decode cX9_round 24 = .ok (.istore_n 2, 1) := dk_61 (dk_at dksX9_round_1 0 rfl rfl)
theorem dX9_round_25 : decode cX9_round 25 = .ok (.iconst 1, 1) := dk_4 (dk_at dksX9_round_1 1 rfl rfl)
theorem dX9_round_26 : decode cX9_round 26 = .ok (.istore_n 3, 1) := dk_62 (dk_at dksX9_round_1 2 rfl rfl)
theorem dX9_round_27 : decode cX9_round 27 = .ok (.iconst 0, 1) := dk_3 (dk_at dksX9_round_1 3 rfl rfl)
theorem dX9_round_28 : decode cX9_round 28 = .ok (.istore 4, 2) := dk_54 4 (dk_at dksX9_round_1 4 rfl rfl)
theorem dX9_round_30 : decode cX9_round 30 = .ok (.iload 4, 2) := dk_21 4 (dk_at dksX9_round_1 6 rfl rfl)
theorem dX9_round_32 : decode cX9_round 32 = .ok (.aload_n 0, 1) := dk_42 (dk_at dksX9_round_1 8 rfl rfl)
theorem dX9_round_33 : decode cX9_round 33 = .ok (.getfield 13, 3) := dk_180 0 13 (dk_at dksX9_round_1 9 rfl rfl)
theorem dX9_round_36 : decode cX9_round 36 = .ok (.iconst 0, 1) := dk_3 (dk_at dksX9_round_1 12 rfl rfl)
theorem dX9_round_37 : decode cX9_round 37 = .ok (.iaload, 1) := dk_46 (dk_at dksX9_round_1 13 rfl rfl)
theorem dX9_round_38 : decode cX9_round 38 = .ok (.if_icmp .ge 18, 3) := dk_162 0 18 (dk_at dksX9_round_1 14 rfl rfl)
theorem dX9_round_41 : decode cX9_round 41 = .ok (.aload_n 0, 1) := dk_42 (dk_at dksX9_round_1 17 rfl rfl)
theorem dX9_round_42 : decode cX9_round 42 = .ok (.getfield 65, 3) := dk_180 0 65 (dk_at dksX9_round_1 18 rfl rfl)
theorem dX9_round_45 : decode cX9_round 45 = .ok (.iload 4, 2) := dk_21 4 (dk_at dksX9_round_1 21 rfl rfl)
theorem dX9_round_47 : decode cX9_round 47 = .ok (.iload 4, 2) := dk_21 4 (dk_at dksX9_round_2 0 rfl rfl)
theorem dX9_round_49 : decode cX9_round 49 = .ok (.iastore, 1) := dk_79 (dk_at dksX9_round_2 2 rfl rfl)
theorem dX9_round_50 : decode cX9_round 50 = .ok (.iinc 4 1, 3) := dk_132 4 1 (dk_at dksX9_round_2 3 rfl rfl)
theorem dX9_round_53 : decode cX9_round 53 = .ok (.goto (-23), 3) := dk_167 255 233 (dk_at dksX9_round_2 6 rfl rfl)
theorem dX9_round_56 : decode cX9_round 56 = .ok (.iload_n 3, 1) := dk_29 (dk_at dksX9_round_2 9 rfl rfl)
theorem dX9_round_57 : decode cX9_round 57 = .ok (.ifCond .eq 72, 3) := dk_153 0 72 (dk_at dksX9_round_2 10 rfl rfl)
theorem dX9_round_60 : decode cX9_round 60 = .ok (.iinc 2 1, 3) := dk_132 2 1 (dk_at dksX9_round_2 13 rfl rfl)
theorem dX9_round_63 : decode cX9_round 63 = .ok (.iconst 0, 1) := dk_3 (dk_at dksX9_round_2 16 rfl rfl)
theorem dX9_round_64 : decode cX9_round 64 = .ok (.istore_n 3, 1) := dk_62 (dk_at dksX9_round_2 17 rfl rfl)
theorem dX9_round_65 : decode cX9_round 65 = .ok (.iconst 0, 1) := dk_3 (dk_at dksX9_round_2 18 rfl rfl)
theorem dX9_round_66 : decode cX9_round 66 = .ok (.istore 4, 2) := dk_54 4 (dk_at dksX9_round_2 19 rfl rfl)
theorem dX9_round_68 : decode cX9_round 68 = .ok (.iload 4, 2) := dk_21 4 (dk_at dksX9_round_2 21 rfl rfl)
theorem dX9_round_70 : decode cX9_round 70 = .ok (.aload_n 0, 1) := dk_42 (dk_at dksX9_round_2 23 rfl rfl)
theorem dX9_round_71 : decode cX9_round 71 = .ok (.getfield 13, 3) := dk_180 0 13 (dk_at dksX9_round_3 0 rfl rfl)
theorem dX9_round_74 : decode cX9_round 74 = .ok (.iconst 0, 1) := dk_3 (dk_at dksX9_round_3 3 rfl rfl)
theorem dX9_round_75 : decode cX9_round 75 = .ok (.iaload, 1) := dk_46 (dk_at dksX9_round_3 4 rfl rfl)
theorem dX9_round_76 : decode cX9_round 76 = .ok (.if_icmp .ge 50, 3) := dk_162 0 50 (dk_at dksX9_round_3 5 rfl rfl)
theorem dX9_round_79 : decode cX9_round 79 = .ok (.aload_n 0, 1) := dk_42 (dk_at dksX9_round_3 8 rfl rfl)
theorem dX9_round_80 : decode cX9_round 80 = .ok (.getfield 65, 3) := dk_180 0 65 (dk_at dksX9_round_3 9 rfl rfl)
theorem dX9_round_83 : decode cX9_round 83 = .ok (.iload 4, 2) := dk_21 4 (dk_at dksX9_round_3 12 rfl rfl)
theorem dX9_round_85 : decode cX9_round 85 = .ok (.aload_n 0, 1) := dk_42 (dk_at dksX9_round_3 14 rfl rfl)
theorem dX9_round_86 : decode cX9_round 86 = .ok (.getfield 62, 3) := dk_180 0 62 (dk_at dksX9_round_3 15 rfl rfl)
theorem dX9_round_89 : decode cX9_round 89 = .ok (.aload_n 0, 1) := dk_42 (dk_at dksX9_round_3 18 rfl rfl)
theorem dX9_round_90 : decode cX9_round 90 = .ok (.getfield 65, 3) := dk_180 0 65 (dk_at dksX9_round_3 19 rfl rfl)
theorem dX9_round_93 : decode cX9_round 93 = .ok (.iload 4, 2) := dk_21 4 (dk_at dksX9_round_3 22 rfl rfl)
theorem dX9_round_95 : decode cX9_round 95 = .ok (.iaload, 1) := dk_46 (dk_at dksX9_round_4 0 rfl rfl)
theorem dX9_round_96 : decode cX9_round 96 = .ok (.iaload, 1) := dk_46 (dk_at dksX9_round_4 1 rfl rfl)
theorem dX9_round_97 : decode cX9_round 97 = .ok (.iastore, 1) := dk_79 (dk_at dksX9_round_4 2 rfl rfl)
theorem dX9_round_98 : decode cX9_round 98 = .ok (.iload_n 3, 1) := dk_29 (dk_at dksX9_round_4 3 rfl rfl)
theorem dX9_round_99 : decode cX9_round 99 = .ok (.ifCond .ne 15, 3) := dk_154 0 15 (dk_at dksX9_round_4 4 rfl rfl)
theorem dX9_round_102 : decode cX9_round 102 = .ok (.aload_n 0, 1) := dk_42 (dk_at dksX9_round_4 7 rfl rfl)
theorem dX9_round_103 : decode cX9_round 103 = .ok (.getfield 65, 3) := dk_180 0 65 (dk_at dksX9_round_4 8 rfl rfl)
theorem dX9_round_106 : decode cX9_round 106 = .ok (.iload 4, 2) := dk_21 4 (dk_at dksX9_round_4 11 rfl rfl)
theorem dX9_round_108 : decode cX9_round 108 = .ok (.iaload, 1) := dk_46 (dk_at dksX9_round_4 13 rfl rfl)
theorem dX9_round_109 : decode cX9_round 109 = .ok (.iload 4, 2) := dk_21 4 (dk_at dksX9_round_4 14 rfl rfl)
theorem dX9_round_111 : decode cX9_round 111 = .ok (.if_icmp .eq 7, 3) := dk_159 0 7 (dk_at dksX9_round_4 16 rfl rfl)
theorem dX9_round_114 : decode cX9_round 114 = .ok (.iconst 1, 1) := dk_4 (dk_at dksX9_round_4 19 rfl rfl)
theorem dX9_round_115 : decode cX9_round 115 = .ok (.goto 4, 3) := dk_167 0 4 (dk_at dksX9_round_4 20 rfl rfl)
theorem dX9_round_118 : decode cX9_round 118 = .ok (.iconst 0, 1) := dk_3 (dk_at dksX9_round_4 23 rfl rfl)
theorem dX9_round_119 : decode cX9_round 119 = .ok (.istore_n 3, 1) := dk_62 (dk_at dksX9_round_5 0 rfl rfl)
theorem dX9_round_120 : decode cX9_round 120 = .ok (.iinc 4 1, 3) := dk_132 4 1 (dk_at dksX9_round_5 1 rfl rfl)
theorem dX9_round_123 : decode cX9_round 123 = .ok (.goto (-55), 3) := dk_167 255 201 (dk_at dksX9_round_5 4 rfl rfl)
theorem dX9_round_126 : decode cX9_round 126 = .ok (.goto (-70), 3) := dk_167 255 186 (dk_at dksX9_round_5 7 rfl rfl)
theorem dX9_round_129 : decode cX9_round 129 = .ok (.iload_n 2, 1) := dk_28 (dk_at dksX9_round_5 10 rfl rfl)
theorem dX9_round_130 : decode cX9_round 130 = .ok (.ireturn, 1) := dk_172 (dk_at dksX9_round_5 11 rfl rfl)
abbrev cX9_crossed : ByteArray := prog_13_method_41_code
def yX9_crossed : MethodName := ⟨RX9, "crossed", "()I"⟩
def dkwX9_crossed_4 : List UInt8 := [16, 10, 27, 104, 28, 96, 172, 132, 2, 1, 167, 255, 172, 132, 1, 1, 167, 255, 152, 16, 247, 172]
abbrev dktX9_crossed_4 : List UInt8 := dkwX9_crossed_4 ++ []
def dkwX9_crossed_3 : List UInt8 := [3, 54, 4, 42, 180, 0, 34, 27, 46, 42, 180, 0, 34, 28, 46, 160, 0, 16, 29, 21, 4, 159, 0, 10]
abbrev dktX9_crossed_3 : List UInt8 := dkwX9_crossed_3 ++ dktX9_crossed_4
def dkwX9_crossed_2 : List UInt8 := [167, 0, 4, 3, 62, 42, 180, 0, 31, 27, 46, 42, 180, 0, 31, 28, 46, 160, 0, 7, 4, 167, 0, 4]
abbrev dktX9_crossed_2 : List UInt8 := dkwX9_crossed_2 ++ dktX9_crossed_3
def dkwX9_crossed_1 : List UInt8 := [180, 0, 13, 4, 46, 162, 0, 80, 42, 180, 0, 28, 27, 46, 42, 180, 0, 28, 28, 46, 160, 0, 7, 4]
abbrev dktX9_crossed_1 : List UInt8 := dkwX9_crossed_1 ++ dktX9_crossed_2
def dkwX9_crossed_0 : List UInt8 := [42, 3, 181, 0, 68, 3, 60, 27, 42, 180, 0, 13, 4, 46, 162, 0, 100, 27, 4, 96, 61, 28, 42]
abbrev dktX9_crossed_0 : List UInt8 := dkwX9_crossed_0 ++ dktX9_crossed_1
theorem dksX9_crossed_0 : cX9_crossed.data.toList.drop 0 = dktX9_crossed_0 := by decide +kernel
theorem dksX9_crossed_1 : cX9_crossed.data.toList.drop 23 = dktX9_crossed_1 := dk_seg dksX9_crossed_0 23 rfl rfl
theorem dksX9_crossed_2 : cX9_crossed.data.toList.drop 47 = dktX9_crossed_2 := dk_seg dksX9_crossed_1 24 rfl rfl
theorem dksX9_crossed_3 : cX9_crossed.data.toList.drop 71 = dktX9_crossed_3 := dk_seg dksX9_crossed_2 24 rfl rfl
theorem dksX9_crossed_4 : cX9_crossed.data.toList.drop 95 = dktX9_crossed_4 := dk_seg dksX9_crossed_3 24 rfl rfl
theorem dX9_crossed_0 : decode cX9_crossed 0 = .ok (.aload_n 0, 1) := dk_42 (dk_at dksX9_crossed_0 0 rfl rfl)
theorem dX9_crossed_1 : decode cX9_crossed 1 = .ok (.iconst 0, 1) := dk_3 (dk_at dksX9_crossed_0 1 rfl rfl)
theorem dX9_crossed_2 : decode cX9_crossed 2 = .ok (.putfield 68, 3) := dk_181 0 68 (dk_at dksX9_crossed_0 2 rfl rfl)
theorem dX9_crossed_5 : decode cX9_crossed 5 = .ok (.iconst 0, 1) := dk_3 (dk_at dksX9_crossed_0 5 rfl rfl)
theorem dX9_crossed_6 : decode cX9_crossed 6 = .ok (.istore_n 1, 1) := dk_60 (dk_at dksX9_crossed_0 6 rfl rfl)
theorem dX9_crossed_7 : decode cX9_crossed 7 = .ok (.iload_n 1, 1) := dk_27 (dk_at dksX9_crossed_0 7 rfl rfl)
theorem dX9_crossed_8 : decode cX9_crossed 8 = .ok (.aload_n 0, 1) := dk_42 (dk_at dksX9_crossed_0 8 rfl rfl)
theorem dX9_crossed_9 : decode cX9_crossed 9 = .ok (.getfield 13, 3) := dk_180 0 13 (dk_at dksX9_crossed_0 9 rfl rfl)
theorem dX9_crossed_12 : decode cX9_crossed 12 = .ok (.iconst 1, 1) := dk_4 (dk_at dksX9_crossed_0 12 rfl rfl)
theorem dX9_crossed_13 : decode cX9_crossed 13 = .ok (.iaload, 1) := dk_46 (dk_at dksX9_crossed_0 13 rfl rfl)
theorem dX9_crossed_14 : decode cX9_crossed 14 = .ok (.if_icmp .ge 100, 3) := dk_162 0 100 (dk_at dksX9_crossed_0 14 rfl rfl)
theorem dX9_crossed_17 : decode cX9_crossed 17 = .ok (.iload_n 1, 1) := dk_27 (dk_at dksX9_crossed_0 17 rfl rfl)
theorem dX9_crossed_18 : decode cX9_crossed 18 = .ok (.iconst 1, 1) := dk_4 (dk_at dksX9_crossed_0 18 rfl rfl)
theorem dX9_crossed_19 : decode cX9_crossed 19 = .ok (.iadd, 1) := dk_96 (dk_at dksX9_crossed_0 19 rfl rfl)
theorem dX9_crossed_20 : decode cX9_crossed 20 = .ok (.istore_n 2, 1) := dk_61 (dk_at dksX9_crossed_0 20 rfl rfl)
theorem dX9_crossed_21 : decode cX9_crossed 21 = .ok (.iload_n 2, 1) := dk_28 (dk_at dksX9_crossed_0 21 rfl rfl)
theorem dX9_crossed_22 : decode cX9_crossed 22 = .ok (.aload_n 0, 1) := dk_42 (dk_at dksX9_crossed_0 22 rfl rfl)
theorem dX9_crossed_23 : decode cX9_crossed 23 = .ok (.getfield 13, 3) := dk_180 0 13 (dk_at dksX9_crossed_1 0 rfl rfl)
theorem dX9_crossed_26 : decode cX9_crossed 26 = .ok (.iconst 1, 1) := dk_4 (dk_at dksX9_crossed_1 3 rfl rfl)
theorem dX9_crossed_27 : decode cX9_crossed 27 = .ok (.iaload, 1) := dk_46 (dk_at dksX9_crossed_1 4 rfl rfl)
theorem dX9_crossed_28 : decode cX9_crossed 28 = .ok (.if_icmp .ge 80, 3) := dk_162 0 80 (dk_at dksX9_crossed_1 5 rfl rfl)
theorem dX9_crossed_31 : decode cX9_crossed 31 = .ok (.aload_n 0, 1) := dk_42 (dk_at dksX9_crossed_1 8 rfl rfl)
theorem dX9_crossed_32 : decode cX9_crossed 32 = .ok (.getfield 28, 3) := dk_180 0 28 (dk_at dksX9_crossed_1 9 rfl rfl)
theorem dX9_crossed_35 : decode cX9_crossed 35 = .ok (.iload_n 1, 1) := dk_27 (dk_at dksX9_crossed_1 12 rfl rfl)
theorem dX9_crossed_36 : decode cX9_crossed 36 = .ok (.iaload, 1) := dk_46 (dk_at dksX9_crossed_1 13 rfl rfl)
theorem dX9_crossed_37 : decode cX9_crossed 37 = .ok (.aload_n 0, 1) := dk_42 (dk_at dksX9_crossed_1 14 rfl rfl)
theorem dX9_crossed_38 : decode cX9_crossed 38 = .ok (.getfield 28, 3) := dk_180 0 28 (dk_at dksX9_crossed_1 15 rfl rfl)
theorem dX9_crossed_41 : decode cX9_crossed 41 = .ok (.iload_n 2, 1) := dk_28 (dk_at dksX9_crossed_1 18 rfl rfl)
theorem dX9_crossed_42 : decode cX9_crossed 42 = .ok (.iaload, 1) := dk_46 (dk_at dksX9_crossed_1 19 rfl rfl)
theorem dX9_crossed_43 : decode cX9_crossed 43 = .ok (.if_icmp .ne 7, 3) := dk_160 0 7 (dk_at dksX9_crossed_1 20 rfl rfl)
theorem dX9_crossed_46 : decode cX9_crossed 46 = .ok (.iconst 1, 1) := dk_4 (dk_at dksX9_crossed_1 23 rfl rfl)
theorem dX9_crossed_47 : decode cX9_crossed 47 = .ok (.goto 4, 3) := dk_167 0 4 (dk_at dksX9_crossed_2 0 rfl rfl)
theorem dX9_crossed_50 : decode cX9_crossed 50 = .ok (.iconst 0, 1) := dk_3 (dk_at dksX9_crossed_2 3 rfl rfl)
theorem dX9_crossed_51 : decode cX9_crossed 51 = .ok (.istore_n 3, 1) := dk_62 (dk_at dksX9_crossed_2 4 rfl rfl)
theorem dX9_crossed_52 : decode cX9_crossed 52 = .ok (.aload_n 0, 1) := dk_42 (dk_at dksX9_crossed_2 5 rfl rfl)
theorem dX9_crossed_53 : decode cX9_crossed 53 = .ok (.getfield 31, 3) := dk_180 0 31 (dk_at dksX9_crossed_2 6 rfl rfl)
theorem dX9_crossed_56 : decode cX9_crossed 56 = .ok (.iload_n 1, 1) := dk_27 (dk_at dksX9_crossed_2 9 rfl rfl)
theorem dX9_crossed_57 : decode cX9_crossed 57 = .ok (.iaload, 1) := dk_46 (dk_at dksX9_crossed_2 10 rfl rfl)
theorem dX9_crossed_58 : decode cX9_crossed 58 = .ok (.aload_n 0, 1) := dk_42 (dk_at dksX9_crossed_2 11 rfl rfl)
theorem dX9_crossed_59 : decode cX9_crossed 59 = .ok (.getfield 31, 3) := dk_180 0 31 (dk_at dksX9_crossed_2 12 rfl rfl)
theorem dX9_crossed_62 : decode cX9_crossed 62 = .ok (.iload_n 2, 1) := dk_28 (dk_at dksX9_crossed_2 15 rfl rfl)
theorem dX9_crossed_63 : decode cX9_crossed 63 = .ok (.iaload, 1) := dk_46 (dk_at dksX9_crossed_2 16 rfl rfl)
theorem dX9_crossed_64 : decode cX9_crossed 64 = .ok (.if_icmp .ne 7, 3) := dk_160 0 7 (dk_at dksX9_crossed_2 17 rfl rfl)
theorem dX9_crossed_67 : decode cX9_crossed 67 = .ok (.iconst 1, 1) := dk_4 (dk_at dksX9_crossed_2 20 rfl rfl)
theorem dX9_crossed_68 : decode cX9_crossed 68 = .ok (.goto 4, 3) := dk_167 0 4 (dk_at dksX9_crossed_2 21 rfl rfl)
theorem dX9_crossed_71 : decode cX9_crossed 71 = .ok (.iconst 0, 1) := dk_3 (dk_at dksX9_crossed_3 0 rfl rfl)
theorem dX9_crossed_72 : decode cX9_crossed 72 = .ok (.istore 4, 2) := dk_54 4 (dk_at dksX9_crossed_3 1 rfl rfl)
theorem dX9_crossed_74 : decode cX9_crossed 74 = .ok (.aload_n 0, 1) := dk_42 (dk_at dksX9_crossed_3 3 rfl rfl)
theorem dX9_crossed_75 : decode cX9_crossed 75 = .ok (.getfield 34, 3) := dk_180 0 34 (dk_at dksX9_crossed_3 4 rfl rfl)
theorem dX9_crossed_78 : decode cX9_crossed 78 = .ok (.iload_n 1, 1) := dk_27 (dk_at dksX9_crossed_3 7 rfl rfl)
theorem dX9_crossed_79 : decode cX9_crossed 79 = .ok (.iaload, 1) := dk_46 (dk_at dksX9_crossed_3 8 rfl rfl)
theorem dX9_crossed_80 : decode cX9_crossed 80 = .ok (.aload_n 0, 1) := dk_42 (dk_at dksX9_crossed_3 9 rfl rfl)
theorem dX9_crossed_81 : decode cX9_crossed 81 = .ok (.getfield 34, 3) := dk_180 0 34 (dk_at dksX9_crossed_3 10 rfl rfl)
theorem dX9_crossed_84 : decode cX9_crossed 84 = .ok (.iload_n 2, 1) := dk_28 (dk_at dksX9_crossed_3 13 rfl rfl)
theorem dX9_crossed_85 : decode cX9_crossed 85 = .ok (.iaload, 1) := dk_46 (dk_at dksX9_crossed_3 14 rfl rfl)
theorem dX9_crossed_86 : decode cX9_crossed 86 = .ok (.if_icmp .ne 16, 3) := dk_160 0 16 (dk_at dksX9_crossed_3 15 rfl rfl)
theorem dX9_crossed_89 : decode cX9_crossed 89 = .ok (.iload_n 3, 1) := dk_29 (dk_at dksX9_crossed_3 18 rfl rfl)
theorem dX9_crossed_90 : decode cX9_crossed 90 = .ok (.iload 4, 2) := dk_21 4 (dk_at dksX9_crossed_3 19 rfl rfl)
theorem dX9_crossed_92 : decode cX9_crossed 92 = .ok (.if_icmp .eq 10, 3) := dk_159 0 10 (dk_at dksX9_crossed_3 21 rfl rfl)
theorem dX9_crossed_95 : decode cX9_crossed 95 = .ok (.bipush 10, 2) := dk_16 10 (dk_at dksX9_crossed_4 0 rfl rfl)
theorem dX9_crossed_97 : decode cX9_crossed 97 = .ok (.iload_n 1, 1) := dk_27 (dk_at dksX9_crossed_4 2 rfl rfl)
theorem dX9_crossed_98 : decode cX9_crossed 98 = .ok (.imul, 1) := dk_104 (dk_at dksX9_crossed_4 3 rfl rfl)
theorem dX9_crossed_99 : decode cX9_crossed 99 = .ok (.iload_n 2, 1) := dk_28 (dk_at dksX9_crossed_4 4 rfl rfl)
theorem dX9_crossed_100 : decode cX9_crossed 100 = .ok (.iadd, 1) := dk_96 (dk_at dksX9_crossed_4 5 rfl rfl)
theorem dX9_crossed_101 : decode cX9_crossed 101 = .ok (.ireturn, 1) := dk_172 (dk_at dksX9_crossed_4 6 rfl rfl)
theorem dX9_crossed_102 : decode cX9_crossed 102 = .ok (.iinc 2 1, 3) := dk_132 2 1 (dk_at dksX9_crossed_4 7 rfl rfl)
theorem dX9_crossed_105 : decode cX9_crossed 105 = .ok (.goto (-84), 3) := dk_167 255 172 (dk_at dksX9_crossed_4 10 rfl rfl)
theorem dX9_crossed_108 : decode cX9_crossed 108 = .ok (.iinc 1 1, 3) := dk_132 1 1 (dk_at dksX9_crossed_4 13 rfl rfl)
theorem dX9_crossed_111 : decode cX9_crossed 111 = .ok (.goto (-104), 3) := dk_167 255 152 (dk_at dksX9_crossed_4 16 rfl rfl)
theorem dX9_crossed_114 : decode cX9_crossed 114 = .ok (.bipush (-9), 2) := dk_16 247 (dk_at dksX9_crossed_4 19 rfl rfl)
theorem dX9_crossed_116 : decode cX9_crossed 116 = .ok (.ireturn, 1) := dk_172 (dk_at dksX9_crossed_4 21 rfl rfl)
abbrev cX9_oaths : ByteArray := prog_13_method_42_code
def yX9_oaths : MethodName := ⟨RX9, "oaths", "(I)I"⟩
def dkwX9_oaths_2 : List UInt8 := [167, 0, 4, 3, 96, 61, 132, 3, 1, 167, 255, 222, 28, 172]
abbrev dktX9_oaths_2 : List UInt8 := dkwX9_oaths_2 ++ []
def dkwX9_oaths_1 : List UInt8 := [180, 0, 13, 4, 46, 162, 0, 30, 28, 42, 180, 0, 40, 16, 14, 29, 96, 46, 27, 160, 0, 7, 4]
abbrev dktX9_oaths_1 : List UInt8 := dkwX9_oaths_1 ++ dktX9_oaths_2
def dkwX9_oaths_0 : List UInt8 := [42, 3, 181, 0, 68, 27, 3, 5, 184, 0, 72, 154, 0, 5, 2, 172, 3, 61, 3, 62, 29, 42]
abbrev dktX9_oaths_0 : List UInt8 := dkwX9_oaths_0 ++ dktX9_oaths_1
theorem dksX9_oaths_0 : cX9_oaths.data.toList.drop 0 = dktX9_oaths_0 := by decide +kernel
theorem dksX9_oaths_1 : cX9_oaths.data.toList.drop 22 = dktX9_oaths_1 := dk_seg dksX9_oaths_0 22 rfl rfl
theorem dksX9_oaths_2 : cX9_oaths.data.toList.drop 45 = dktX9_oaths_2 := dk_seg dksX9_oaths_1 23 rfl rfl
theorem dX9_oaths_0 : decode cX9_oaths 0 = .ok (.aload_n 0, 1) := dk_42 (dk_at dksX9_oaths_0 0 rfl rfl)
theorem dX9_oaths_1 : decode cX9_oaths 1 = .ok (.iconst 0, 1) := dk_3 (dk_at dksX9_oaths_0 1 rfl rfl)
theorem dX9_oaths_2 : decode cX9_oaths 2 = .ok (.putfield 68, 3) := dk_181 0 68 (dk_at dksX9_oaths_0 2 rfl rfl)
theorem dX9_oaths_5 : decode cX9_oaths 5 = .ok (.iload_n 1, 1) := dk_27 (dk_at dksX9_oaths_0 5 rfl rfl)
theorem dX9_oaths_6 : decode cX9_oaths 6 = .ok (.iconst 0, 1) := dk_3 (dk_at dksX9_oaths_0 6 rfl rfl)
theorem dX9_oaths_7 : decode cX9_oaths 7 = .ok (.iconst 2, 1) := dk_5 (dk_at dksX9_oaths_0 7 rfl rfl)
theorem dX9_oaths_8 : decode cX9_oaths 8 = .ok (.invokestatic 72, 3) := dk_184 0 72 (dk_at dksX9_oaths_0 8 rfl rfl)
theorem dX9_oaths_11 : decode cX9_oaths 11 = .ok (.ifCond .ne 5, 3) := dk_154 0 5 (dk_at dksX9_oaths_0 11 rfl rfl)
theorem dX9_oaths_14 : decode cX9_oaths 14 = .ok (.iconst (-1), 1) := dk_2 (dk_at dksX9_oaths_0 14 rfl rfl)
theorem dX9_oaths_15 : decode cX9_oaths 15 = .ok (.ireturn, 1) := dk_172 (dk_at dksX9_oaths_0 15 rfl rfl)
theorem dX9_oaths_16 : decode cX9_oaths 16 = .ok (.iconst 0, 1) := dk_3 (dk_at dksX9_oaths_0 16 rfl rfl)
theorem dX9_oaths_17 : decode cX9_oaths 17 = .ok (.istore_n 2, 1) := dk_61 (dk_at dksX9_oaths_0 17 rfl rfl)
theorem dX9_oaths_18 : decode cX9_oaths 18 = .ok (.iconst 0, 1) := dk_3 (dk_at dksX9_oaths_0 18 rfl rfl)
theorem dX9_oaths_19 : decode cX9_oaths 19 = .ok (.istore_n 3, 1) := dk_62 (dk_at dksX9_oaths_0 19 rfl rfl)
theorem dX9_oaths_20 : decode cX9_oaths 20 = .ok (.iload_n 3, 1) := dk_29 (dk_at dksX9_oaths_0 20 rfl rfl)
theorem dX9_oaths_21 : decode cX9_oaths 21 = .ok (.aload_n 0, 1) := dk_42 (dk_at dksX9_oaths_0 21 rfl rfl)
theorem dX9_oaths_22 : decode cX9_oaths 22 = .ok (.getfield 13, 3) := dk_180 0 13 (dk_at dksX9_oaths_1 0 rfl rfl)
theorem dX9_oaths_25 : decode cX9_oaths 25 = .ok (.iconst 1, 1) := dk_4 (dk_at dksX9_oaths_1 3 rfl rfl)
theorem dX9_oaths_26 : decode cX9_oaths 26 = .ok (.iaload, 1) := dk_46 (dk_at dksX9_oaths_1 4 rfl rfl)
theorem dX9_oaths_27 : decode cX9_oaths 27 = .ok (.if_icmp .ge 30, 3) := dk_162 0 30 (dk_at dksX9_oaths_1 5 rfl rfl)
theorem dX9_oaths_30 : decode cX9_oaths 30 = .ok (.iload_n 2, 1) := dk_28 (dk_at dksX9_oaths_1 8 rfl rfl)
theorem dX9_oaths_31 : decode cX9_oaths 31 = .ok (.aload_n 0, 1) := dk_42 (dk_at dksX9_oaths_1 9 rfl rfl)
theorem dX9_oaths_32 : decode cX9_oaths 32 = .ok (.getfield 40, 3) := dk_180 0 40 (dk_at dksX9_oaths_1 10 rfl rfl)
theorem dX9_oaths_35 : decode cX9_oaths 35 = .ok (.bipush 14, 2) := dk_16 14 (dk_at dksX9_oaths_1 13 rfl rfl)
theorem dX9_oaths_37 : decode cX9_oaths 37 = .ok (.iload_n 3, 1) := dk_29 (dk_at dksX9_oaths_1 15 rfl rfl)
theorem dX9_oaths_38 : decode cX9_oaths 38 = .ok (.iadd, 1) := dk_96 (dk_at dksX9_oaths_1 16 rfl rfl)
theorem dX9_oaths_39 : decode cX9_oaths 39 = .ok (.iaload, 1) := dk_46 (dk_at dksX9_oaths_1 17 rfl rfl)
theorem dX9_oaths_40 : decode cX9_oaths 40 = .ok (.iload_n 1, 1) := dk_27 (dk_at dksX9_oaths_1 18 rfl rfl)
theorem dX9_oaths_41 : decode cX9_oaths 41 = .ok (.if_icmp .ne 7, 3) := dk_160 0 7 (dk_at dksX9_oaths_1 19 rfl rfl)
theorem dX9_oaths_44 : decode cX9_oaths 44 = .ok (.iconst 1, 1) := dk_4 (dk_at dksX9_oaths_1 22 rfl rfl)
theorem dX9_oaths_45 : decode cX9_oaths 45 = .ok (.goto 4, 3) := dk_167 0 4 (dk_at dksX9_oaths_2 0 rfl rfl)
theorem dX9_oaths_48 : decode cX9_oaths 48 = .ok (.iconst 0, 1) := dk_3 (dk_at dksX9_oaths_2 3 rfl rfl)
theorem dX9_oaths_49 : decode cX9_oaths 49 = .ok (.iadd, 1) := dk_96 (dk_at dksX9_oaths_2 4 rfl rfl)
theorem dX9_oaths_50 : decode cX9_oaths 50 = .ok (.istore_n 2, 1) := dk_61 (dk_at dksX9_oaths_2 5 rfl rfl)
theorem dX9_oaths_51 : decode cX9_oaths 51 = .ok (.iinc 3 1, 3) := dk_132 3 1 (dk_at dksX9_oaths_2 6 rfl rfl)
theorem dX9_oaths_54 : decode cX9_oaths 54 = .ok (.goto (-34), 3) := dk_167 255 222 (dk_at dksX9_oaths_2 9 rfl rfl)
theorem dX9_oaths_57 : decode cX9_oaths 57 = .ok (.iload_n 2, 1) := dk_28 (dk_at dksX9_oaths_2 12 rfl rfl)
theorem dX9_oaths_58 : decode cX9_oaths 58 = .ok (.ireturn, 1) := dk_172 (dk_at dksX9_oaths_2 13 rfl rfl)
abbrev cX9_strokes : ByteArray := prog_13_method_43_code
def yX9_strokes : MethodName := ⟨RX9, "strokes", "(II)I"⟩
def dkwX9_strokes_1 : List UInt8 := [180, 0, 40, 16, 20, 16, 6, 27, 104, 96, 28, 96, 46, 167, 0, 4, 2, 172]
abbrev dktX9_strokes_1 : List UInt8 := dkwX9_strokes_1 ++ []
def dkwX9_strokes_0 : List UInt8 := [42, 3, 181, 0, 68, 42, 27, 182, 0, 127, 153, 0, 28, 42, 28, 182, 0, 127, 153, 0, 20, 42]
abbrev dktX9_strokes_0 : List UInt8 := dkwX9_strokes_0 ++ dktX9_strokes_1
theorem dksX9_strokes_0 : cX9_strokes.data.toList.drop 0 = dktX9_strokes_0 := by decide +kernel
theorem dksX9_strokes_1 : cX9_strokes.data.toList.drop 22 = dktX9_strokes_1 := dk_seg dksX9_strokes_0 22 rfl rfl
theorem dX9_strokes_0 : decode cX9_strokes 0 = .ok (.aload_n 0, 1) := dk_42 (dk_at dksX9_strokes_0 0 rfl rfl)
theorem dX9_strokes_1 : decode cX9_strokes 1 = .ok (.iconst 0, 1) := dk_3 (dk_at dksX9_strokes_0 1 rfl rfl)
theorem dX9_strokes_2 : decode cX9_strokes 2 = .ok (.putfield 68, 3) := dk_181 0 68 (dk_at dksX9_strokes_0 2 rfl rfl)
theorem dX9_strokes_5 : decode cX9_strokes 5 = .ok (.aload_n 0, 1) := dk_42 (dk_at dksX9_strokes_0 5 rfl rfl)
theorem dX9_strokes_6 : decode cX9_strokes 6 = .ok (.iload_n 1, 1) := dk_27 (dk_at dksX9_strokes_0 6 rfl rfl)
theorem dX9_strokes_7 : decode cX9_strokes 7 = .ok (.invokevirtual 127, 3) := dk_182 0 127 (dk_at dksX9_strokes_0 7 rfl rfl)
theorem dX9_strokes_10 : decode cX9_strokes 10 = .ok (.ifCond .eq 28, 3) := dk_153 0 28 (dk_at dksX9_strokes_0 10 rfl rfl)
theorem dX9_strokes_13 : decode cX9_strokes 13 = .ok (.aload_n 0, 1) := dk_42 (dk_at dksX9_strokes_0 13 rfl rfl)
theorem dX9_strokes_14 : decode cX9_strokes 14 = .ok (.iload_n 2, 1) := dk_28 (dk_at dksX9_strokes_0 14 rfl rfl)
theorem dX9_strokes_15 : decode cX9_strokes 15 = .ok (.invokevirtual 127, 3) := dk_182 0 127 (dk_at dksX9_strokes_0 15 rfl rfl)
theorem dX9_strokes_18 : decode cX9_strokes 18 = .ok (.ifCond .eq 20, 3) := dk_153 0 20 (dk_at dksX9_strokes_0 18 rfl rfl)
theorem dX9_strokes_21 : decode cX9_strokes 21 = .ok (.aload_n 0, 1) := dk_42 (dk_at dksX9_strokes_0 21 rfl rfl)
theorem dX9_strokes_22 : decode cX9_strokes 22 = .ok (.getfield 40, 3) := dk_180 0 40 (dk_at dksX9_strokes_1 0 rfl rfl)
theorem dX9_strokes_25 : decode cX9_strokes 25 = .ok (.bipush 20, 2) := dk_16 20 (dk_at dksX9_strokes_1 3 rfl rfl)
theorem dX9_strokes_27 : decode cX9_strokes 27 = .ok (.bipush 6, 2) := dk_16 6 (dk_at dksX9_strokes_1 5 rfl rfl)
theorem dX9_strokes_29 : decode cX9_strokes 29 = .ok (.iload_n 1, 1) := dk_27 (dk_at dksX9_strokes_1 7 rfl rfl)
theorem dX9_strokes_30 : decode cX9_strokes 30 = .ok (.imul, 1) := dk_104 (dk_at dksX9_strokes_1 8 rfl rfl)
theorem dX9_strokes_31 : decode cX9_strokes 31 = .ok (.iadd, 1) := dk_96 (dk_at dksX9_strokes_1 9 rfl rfl)
theorem dX9_strokes_32 : decode cX9_strokes 32 = .ok (.iload_n 2, 1) := dk_28 (dk_at dksX9_strokes_1 10 rfl rfl)
theorem dX9_strokes_33 : decode cX9_strokes 33 = .ok (.iadd, 1) := dk_96 (dk_at dksX9_strokes_1 11 rfl rfl)
theorem dX9_strokes_34 : decode cX9_strokes 34 = .ok (.iaload, 1) := dk_46 (dk_at dksX9_strokes_1 12 rfl rfl)
theorem dX9_strokes_35 : decode cX9_strokes 35 = .ok (.goto 4, 3) := dk_167 0 4 (dk_at dksX9_strokes_1 13 rfl rfl)
theorem dX9_strokes_38 : decode cX9_strokes 38 = .ok (.iconst (-1), 1) := dk_2 (dk_at dksX9_strokes_1 16 rfl rfl)
theorem dX9_strokes_39 : decode cX9_strokes 39 = .ok (.ireturn, 1) := dk_172 (dk_at dksX9_strokes_1 17 rfl rfl)
abbrev cX9_found : ByteArray := prog_13_method_44_code
def yX9_found : MethodName := ⟨RX9, "found", "(II)I"⟩
def dkwX9_found_2 : List UInt8 := [42, 180, 0, 121, 28, 79, 42, 89, 180, 0, 121, 4, 96, 181, 0, 121, 42, 180, 0, 121, 172]
abbrev dktX9_found_2 : List UInt8 := dkwX9_found_2 ++ []
def dkwX9_found_1 : List UInt8 := [180, 0, 121, 8, 160, 0, 6, 16, 253, 172, 42, 180, 0, 56, 42, 180, 0, 121, 27, 79, 42, 180, 0, 59]
abbrev dktX9_found_1 : List UInt8 := dkwX9_found_1 ++ dktX9_found_2
def dkwX9_found_0 : List UInt8 := [42, 3, 181, 0, 68, 42, 27, 182, 0, 127, 153, 0, 11, 42, 28, 182, 0, 127, 154, 0, 5, 2, 172, 42]
abbrev dktX9_found_0 : List UInt8 := dkwX9_found_0 ++ dktX9_found_1
theorem dksX9_found_0 : cX9_found.data.toList.drop 0 = dktX9_found_0 := by decide +kernel
theorem dksX9_found_1 : cX9_found.data.toList.drop 24 = dktX9_found_1 := dk_seg dksX9_found_0 24 rfl rfl
theorem dksX9_found_2 : cX9_found.data.toList.drop 48 = dktX9_found_2 := dk_seg dksX9_found_1 24 rfl rfl
theorem dX9_found_0 : decode cX9_found 0 = .ok (.aload_n 0, 1) := dk_42 (dk_at dksX9_found_0 0 rfl rfl)
theorem dX9_found_1 : decode cX9_found 1 = .ok (.iconst 0, 1) := dk_3 (dk_at dksX9_found_0 1 rfl rfl)
theorem dX9_found_2 : decode cX9_found 2 = .ok (.putfield 68, 3) := dk_181 0 68 (dk_at dksX9_found_0 2 rfl rfl)
theorem dX9_found_5 : decode cX9_found 5 = .ok (.aload_n 0, 1) := dk_42 (dk_at dksX9_found_0 5 rfl rfl)
theorem dX9_found_6 : decode cX9_found 6 = .ok (.iload_n 1, 1) := dk_27 (dk_at dksX9_found_0 6 rfl rfl)
theorem dX9_found_7 : decode cX9_found 7 = .ok (.invokevirtual 127, 3) := dk_182 0 127 (dk_at dksX9_found_0 7 rfl rfl)
theorem dX9_found_10 : decode cX9_found 10 = .ok (.ifCond .eq 11, 3) := dk_153 0 11 (dk_at dksX9_found_0 10 rfl rfl)
theorem dX9_found_13 : decode cX9_found 13 = .ok (.aload_n 0, 1) := dk_42 (dk_at dksX9_found_0 13 rfl rfl)
theorem dX9_found_14 : decode cX9_found 14 = .ok (.iload_n 2, 1) := dk_28 (dk_at dksX9_found_0 14 rfl rfl)
theorem dX9_found_15 : decode cX9_found 15 = .ok (.invokevirtual 127, 3) := dk_182 0 127 (dk_at dksX9_found_0 15 rfl rfl)
theorem dX9_found_18 : decode cX9_found 18 = .ok (.ifCond .ne 5, 3) := dk_154 0 5 (dk_at dksX9_found_0 18 rfl rfl)
theorem dX9_found_21 : decode cX9_found 21 = .ok (.iconst (-1), 1) := dk_2 (dk_at dksX9_found_0 21 rfl rfl)
theorem dX9_found_22 : decode cX9_found 22 = .ok (.ireturn, 1) := dk_172 (dk_at dksX9_found_0 22 rfl rfl)
theorem dX9_found_23 : decode cX9_found 23 = .ok (.aload_n 0, 1) := dk_42 (dk_at dksX9_found_0 23 rfl rfl)
theorem dX9_found_24 : decode cX9_found 24 = .ok (.getfield 121, 3) := dk_180 0 121 (dk_at dksX9_found_1 0 rfl rfl)
theorem dX9_found_27 : decode cX9_found 27 = .ok (.iconst 5, 1) := dk_8 (dk_at dksX9_found_1 3 rfl rfl)
theorem dX9_found_28 : decode cX9_found 28 = .ok (.if_icmp .ne 6, 3) := dk_160 0 6 (dk_at dksX9_found_1 4 rfl rfl)
theorem dX9_found_31 : decode cX9_found 31 = .ok (.bipush (-3), 2) := dk_16 253 (dk_at dksX9_found_1 7 rfl rfl)
theorem dX9_found_33 : decode cX9_found 33 = .ok (.ireturn, 1) := dk_172 (dk_at dksX9_found_1 9 rfl rfl)
theorem dX9_found_34 : decode cX9_found 34 = .ok (.aload_n 0, 1) := dk_42 (dk_at dksX9_found_1 10 rfl rfl)
theorem dX9_found_35 : decode cX9_found 35 = .ok (.getfield 56, 3) := dk_180 0 56 (dk_at dksX9_found_1 11 rfl rfl)
theorem dX9_found_38 : decode cX9_found 38 = .ok (.aload_n 0, 1) := dk_42 (dk_at dksX9_found_1 14 rfl rfl)
theorem dX9_found_39 : decode cX9_found 39 = .ok (.getfield 121, 3) := dk_180 0 121 (dk_at dksX9_found_1 15 rfl rfl)
theorem dX9_found_42 : decode cX9_found 42 = .ok (.iload_n 1, 1) := dk_27 (dk_at dksX9_found_1 18 rfl rfl)
theorem dX9_found_43 : decode cX9_found 43 = .ok (.iastore, 1) := dk_79 (dk_at dksX9_found_1 19 rfl rfl)
theorem dX9_found_44 : decode cX9_found 44 = .ok (.aload_n 0, 1) := dk_42 (dk_at dksX9_found_1 20 rfl rfl)
theorem dX9_found_45 : decode cX9_found 45 = .ok (.getfield 59, 3) := dk_180 0 59 (dk_at dksX9_found_1 21 rfl rfl)
theorem dX9_found_48 : decode cX9_found 48 = .ok (.aload_n 0, 1) := dk_42 (dk_at dksX9_found_2 0 rfl rfl)
theorem dX9_found_49 : decode cX9_found 49 = .ok (.getfield 121, 3) := dk_180 0 121 (dk_at dksX9_found_2 1 rfl rfl)
theorem dX9_found_52 : decode cX9_found 52 = .ok (.iload_n 2, 1) := dk_28 (dk_at dksX9_found_2 4 rfl rfl)
theorem dX9_found_53 : decode cX9_found 53 = .ok (.iastore, 1) := dk_79 (dk_at dksX9_found_2 5 rfl rfl)
theorem dX9_found_54 : decode cX9_found 54 = .ok (.aload_n 0, 1) := dk_42 (dk_at dksX9_found_2 6 rfl rfl)
theorem dX9_found_55 : decode cX9_found 55 = .ok (.dup, 1) := dk_89 (dk_at dksX9_found_2 7 rfl rfl)
theorem dX9_found_56 : decode cX9_found 56 = .ok (.getfield 121, 3) := dk_180 0 121 (dk_at dksX9_found_2 8 rfl rfl)
theorem dX9_found_59 : decode cX9_found 59 = .ok (.iconst 1, 1) := dk_4 (dk_at dksX9_found_2 11 rfl rfl)
theorem dX9_found_60 : decode cX9_found 60 = .ok (.iadd, 1) := dk_96 (dk_at dksX9_found_2 12 rfl rfl)
theorem dX9_found_61 : decode cX9_found 61 = .ok (.putfield 121, 3) := dk_181 0 121 (dk_at dksX9_found_2 13 rfl rfl)
theorem dX9_found_64 : decode cX9_found 64 = .ok (.aload_n 0, 1) := dk_42 (dk_at dksX9_found_2 16 rfl rfl)
theorem dX9_found_65 : decode cX9_found 65 = .ok (.getfield 121, 3) := dk_180 0 121 (dk_at dksX9_found_2 17 rfl rfl)
theorem dX9_found_68 : decode cX9_found 68 = .ok (.ireturn, 1) := dk_172 (dk_at dksX9_found_2 20 rfl rfl)
abbrev cX9_forget : ByteArray := prog_13_method_45_code
def yX9_forget : MethodName := ⟨RX9, "forget", "()I"⟩
def dkwX9_forget_0 : List UInt8 := [42, 3, 181, 0, 68, 42, 180, 0, 121, 60, 42, 3, 181, 0, 121, 27, 172]
abbrev dktX9_forget_0 : List UInt8 := dkwX9_forget_0 ++ []
theorem dksX9_forget_0 : cX9_forget.data.toList.drop 0 = dktX9_forget_0 := by decide +kernel
theorem dX9_forget_0 : decode cX9_forget 0 = .ok (.aload_n 0, 1) := dk_42 (dk_at dksX9_forget_0 0 rfl rfl)
theorem dX9_forget_1 : decode cX9_forget 1 = .ok (.iconst 0, 1) := dk_3 (dk_at dksX9_forget_0 1 rfl rfl)
theorem dX9_forget_2 : decode cX9_forget 2 = .ok (.putfield 68, 3) := dk_181 0 68 (dk_at dksX9_forget_0 2 rfl rfl)
theorem dX9_forget_5 : decode cX9_forget 5 = .ok (.aload_n 0, 1) := dk_42 (dk_at dksX9_forget_0 5 rfl rfl)
theorem dX9_forget_6 : decode cX9_forget 6 = .ok (.getfield 121, 3) := dk_180 0 121 (dk_at dksX9_forget_0 6 rfl rfl)
theorem dX9_forget_9 : decode cX9_forget 9 = .ok (.istore_n 1, 1) := dk_60 (dk_at dksX9_forget_0 9 rfl rfl)
theorem dX9_forget_10 : decode cX9_forget 10 = .ok (.aload_n 0, 1) := dk_42 (dk_at dksX9_forget_0 10 rfl rfl)
theorem dX9_forget_11 : decode cX9_forget 11 = .ok (.iconst 0, 1) := dk_3 (dk_at dksX9_forget_0 11 rfl rfl)
theorem dX9_forget_12 : decode cX9_forget 12 = .ok (.putfield 121, 3) := dk_181 0 121 (dk_at dksX9_forget_0 12 rfl rfl)
theorem dX9_forget_15 : decode cX9_forget 15 = .ok (.iload_n 1, 1) := dk_27 (dk_at dksX9_forget_0 15 rfl rfl)
theorem dX9_forget_16 : decode cX9_forget 16 = .ok (.ireturn, 1) := dk_172 (dk_at dksX9_forget_0 16 rfl rfl)
abbrev cX9_which : ByteArray := prog_13_method_46_code
def yX9_which : MethodName := ⟨RX9, "which", "(I)I"⟩
def dkwX9_which_6 : List UInt8 := [167, 0, 4, 29, 172]
abbrev dktX9_which_6 : List UInt8 := dkwX9_which_6 ++ []
def dkwX9_which_5 : List UInt8 := [21, 5, 153, 0, 7, 4, 167, 0, 4, 3, 96, 61, 132, 4, 1, 167, 255, 148, 27, 154, 0, 7, 28]
abbrev dktX9_which_5 : List UInt8 := dkwX9_which_5 ++ dktX9_which_6
def dkwX9_which_4 : List UInt8 := [132, 6, 1, 167, 255, 203, 21, 5, 153, 0, 12, 28, 154, 0, 8, 21, 4, 167, 0, 4, 29, 62, 28]
abbrev dktX9_which_4 : List UInt8 := dkwX9_which_4 ++ dktX9_which_5
def dkwX9_which_3 : List UInt8 := [21, 6, 46, 46, 96, 46, 42, 180, 0, 56, 21, 6, 46, 160, 0, 7, 4, 167, 0, 4, 3, 54, 5]
abbrev dktX9_which_3 : List UInt8 := dkwX9_which_3 ++ dktX9_which_4
def dkwX9_which_2 : List UInt8 := [180, 0, 121, 162, 0, 50, 21, 5, 153, 0, 36, 42, 180, 0, 40, 5, 42, 180, 0, 62, 42, 180, 0, 59]
abbrev dktX9_which_2 : List UInt8 := dkwX9_which_2 ++ dktX9_which_3
def dkwX9_which_1 : List UInt8 := [21, 4, 17, 3, 232, 162, 0, 106, 42, 21, 4, 182, 0, 149, 4, 54, 5, 3, 54, 6, 21, 6, 42]
abbrev dktX9_which_1 : List UInt8 := dkwX9_which_1 ++ dktX9_which_2
def dkwX9_which_0 : List UInt8 := [42, 3, 181, 0, 68, 27, 3, 4, 184, 0, 72, 154, 0, 5, 2, 172, 3, 61, 16, 247, 62, 3, 54, 4]
abbrev dktX9_which_0 : List UInt8 := dkwX9_which_0 ++ dktX9_which_1
theorem dksX9_which_0 : cX9_which.data.toList.drop 0 = dktX9_which_0 := by decide +kernel
theorem dksX9_which_1 : cX9_which.data.toList.drop 24 = dktX9_which_1 := dk_seg dksX9_which_0 24 rfl rfl
theorem dksX9_which_2 : cX9_which.data.toList.drop 47 = dktX9_which_2 := dk_seg dksX9_which_1 23 rfl rfl
theorem dksX9_which_3 : cX9_which.data.toList.drop 71 = dktX9_which_3 := dk_seg dksX9_which_2 24 rfl rfl
theorem dksX9_which_4 : cX9_which.data.toList.drop 94 = dktX9_which_4 := dk_seg dksX9_which_3 23 rfl rfl
theorem dksX9_which_5 : cX9_which.data.toList.drop 117 = dktX9_which_5 := dk_seg dksX9_which_4 23 rfl rfl
theorem dksX9_which_6 : cX9_which.data.toList.drop 140 = dktX9_which_6 := dk_seg dksX9_which_5 23 rfl rfl
theorem dX9_which_0 : decode cX9_which 0 = .ok (.aload_n 0, 1) := dk_42 (dk_at dksX9_which_0 0 rfl rfl)
theorem dX9_which_1 : decode cX9_which 1 = .ok (.iconst 0, 1) := dk_3 (dk_at dksX9_which_0 1 rfl rfl)
theorem dX9_which_2 : decode cX9_which 2 = .ok (.putfield 68, 3) := dk_181 0 68 (dk_at dksX9_which_0 2 rfl rfl)
theorem dX9_which_5 : decode cX9_which 5 = .ok (.iload_n 1, 1) := dk_27 (dk_at dksX9_which_0 5 rfl rfl)
theorem dX9_which_6 : decode cX9_which 6 = .ok (.iconst 0, 1) := dk_3 (dk_at dksX9_which_0 6 rfl rfl)
theorem dX9_which_7 : decode cX9_which 7 = .ok (.iconst 1, 1) := dk_4 (dk_at dksX9_which_0 7 rfl rfl)
theorem dX9_which_8 : decode cX9_which 8 = .ok (.invokestatic 72, 3) := dk_184 0 72 (dk_at dksX9_which_0 8 rfl rfl)
theorem dX9_which_11 : decode cX9_which 11 = .ok (.ifCond .ne 5, 3) := dk_154 0 5 (dk_at dksX9_which_0 11 rfl rfl)
theorem dX9_which_14 : decode cX9_which 14 = .ok (.iconst (-1), 1) := dk_2 (dk_at dksX9_which_0 14 rfl rfl)
theorem dX9_which_15 : decode cX9_which 15 = .ok (.ireturn, 1) := dk_172 (dk_at dksX9_which_0 15 rfl rfl)
theorem dX9_which_16 : decode cX9_which 16 = .ok (.iconst 0, 1) := dk_3 (dk_at dksX9_which_0 16 rfl rfl)
theorem dX9_which_17 : decode cX9_which 17 = .ok (.istore_n 2, 1) := dk_61 (dk_at dksX9_which_0 17 rfl rfl)
theorem dX9_which_18 : decode cX9_which 18 = .ok (.bipush (-9), 2) := dk_16 247 (dk_at dksX9_which_0 18 rfl rfl)
theorem dX9_which_20 : decode cX9_which 20 = .ok (.istore_n 3, 1) := dk_62 (dk_at dksX9_which_0 20 rfl rfl)
theorem dX9_which_21 : decode cX9_which 21 = .ok (.iconst 0, 1) := dk_3 (dk_at dksX9_which_0 21 rfl rfl)
theorem dX9_which_22 : decode cX9_which 22 = .ok (.istore 4, 2) := dk_54 4 (dk_at dksX9_which_0 22 rfl rfl)
theorem dX9_which_24 : decode cX9_which 24 = .ok (.iload 4, 2) := dk_21 4 (dk_at dksX9_which_1 0 rfl rfl)
theorem dX9_which_26 : decode cX9_which 26 = .ok (.sipush 1000, 3) := dk_17 3 232 (dk_at dksX9_which_1 2 rfl rfl)
theorem dX9_which_29 : decode cX9_which 29 = .ok (.if_icmp .ge 106, 3) := dk_162 0 106 (dk_at dksX9_which_1 5 rfl rfl)
theorem dX9_which_32 : decode cX9_which 32 = .ok (.aload_n 0, 1) := dk_42 (dk_at dksX9_which_1 8 rfl rfl)
theorem dX9_which_33 : decode cX9_which 33 = .ok (.iload 4, 2) := dk_21 4 (dk_at dksX9_which_1 9 rfl rfl)
theorem dX9_which_35 : decode cX9_which 35 = .ok (.invokevirtual 149, 3) := dk_182 0 149 (dk_at dksX9_which_1 11 rfl rfl)
theorem dX9_which_38 : decode cX9_which 38 = .ok (.iconst 1, 1) := dk_4 (dk_at dksX9_which_1 14 rfl rfl)
theorem dX9_which_39 : decode cX9_which 39 = .ok (.istore 5, 2) := dk_54 5 (dk_at dksX9_which_1 15 rfl rfl)
theorem dX9_which_41 : decode cX9_which 41 = .ok (.iconst 0, 1) := dk_3 (dk_at dksX9_which_1 17 rfl rfl)
theorem dX9_which_42 : decode cX9_which 42 = .ok (.istore 6, 2) := dk_54 6 (dk_at dksX9_which_1 18 rfl rfl)
theorem dX9_which_44 : decode cX9_which 44 = .ok (.iload 6, 2) := dk_21 6 (dk_at dksX9_which_1 20 rfl rfl)
theorem dX9_which_46 : decode cX9_which 46 = .ok (.aload_n 0, 1) := dk_42 (dk_at dksX9_which_1 22 rfl rfl)
theorem dX9_which_47 : decode cX9_which 47 = .ok (.getfield 121, 3) := dk_180 0 121 (dk_at dksX9_which_2 0 rfl rfl)
theorem dX9_which_50 : decode cX9_which 50 = .ok (.if_icmp .ge 50, 3) := dk_162 0 50 (dk_at dksX9_which_2 3 rfl rfl)
theorem dX9_which_53 : decode cX9_which 53 = .ok (.iload 5, 2) := dk_21 5 (dk_at dksX9_which_2 6 rfl rfl)
theorem dX9_which_55 : decode cX9_which 55 = .ok (.ifCond .eq 36, 3) := dk_153 0 36 (dk_at dksX9_which_2 8 rfl rfl)
theorem dX9_which_58 : decode cX9_which 58 = .ok (.aload_n 0, 1) := dk_42 (dk_at dksX9_which_2 11 rfl rfl)
theorem dX9_which_59 : decode cX9_which 59 = .ok (.getfield 40, 3) := dk_180 0 40 (dk_at dksX9_which_2 12 rfl rfl)
theorem dX9_which_62 : decode cX9_which 62 = .ok (.iconst 2, 1) := dk_5 (dk_at dksX9_which_2 15 rfl rfl)
theorem dX9_which_63 : decode cX9_which 63 = .ok (.aload_n 0, 1) := dk_42 (dk_at dksX9_which_2 16 rfl rfl)
theorem dX9_which_64 : decode cX9_which 64 = .ok (.getfield 62, 3) := dk_180 0 62 (dk_at dksX9_which_2 17 rfl rfl)
theorem dX9_which_67 : decode cX9_which 67 = .ok (.aload_n 0, 1) := dk_42 (dk_at dksX9_which_2 20 rfl rfl)
theorem dX9_which_68 : decode cX9_which 68 = .ok (.getfield 59, 3) := dk_180 0 59 (dk_at dksX9_which_2 21 rfl rfl)
theorem dX9_which_71 : decode cX9_which 71 = .ok (.iload 6, 2) := dk_21 6 (dk_at dksX9_which_3 0 rfl rfl)
theorem dX9_which_73 : decode cX9_which 73 = .ok (.iaload, 1) := dk_46 (dk_at dksX9_which_3 2 rfl rfl)
theorem dX9_which_74 : decode cX9_which 74 = .ok (.iaload, 1) := dk_46 (dk_at dksX9_which_3 3 rfl rfl)
theorem dX9_which_75 : decode cX9_which 75 = .ok (.iadd, 1) := dk_96 (dk_at dksX9_which_3 4 rfl rfl)
theorem dX9_which_76 : decode cX9_which 76 = .ok (.iaload, 1) := dk_46 (dk_at dksX9_which_3 5 rfl rfl)
theorem dX9_which_77 : decode cX9_which 77 = .ok (.aload_n 0, 1) := dk_42 (dk_at dksX9_which_3 6 rfl rfl)
theorem dX9_which_78 : decode cX9_which 78 = .ok (.getfield 56, 3) := dk_180 0 56 (dk_at dksX9_which_3 7 rfl rfl)
theorem dX9_which_81 : decode cX9_which 81 = .ok (.iload 6, 2) := dk_21 6 (dk_at dksX9_which_3 10 rfl rfl)
theorem dX9_which_83 : decode cX9_which 83 = .ok (.iaload, 1) := dk_46 (dk_at dksX9_which_3 12 rfl rfl)
theorem dX9_which_84 : decode cX9_which 84 = .ok (.if_icmp .ne 7, 3) := dk_160 0 7 (dk_at dksX9_which_3 13 rfl rfl)
theorem dX9_which_87 : decode cX9_which 87 = .ok (.iconst 1, 1) := dk_4 (dk_at dksX9_which_3 16 rfl rfl)
theorem dX9_which_88 : decode cX9_which 88 = .ok (.goto 4, 3) := dk_167 0 4 (dk_at dksX9_which_3 17 rfl rfl)
theorem dX9_which_91 : decode cX9_which 91 = .ok (.iconst 0, 1) := dk_3 (dk_at dksX9_which_3 20 rfl rfl)
theorem dX9_which_92 : decode cX9_which 92 = .ok (.istore 5, 2) := dk_54 5 (dk_at dksX9_which_3 21 rfl rfl)
theorem dX9_which_94 : decode cX9_which 94 = .ok (.iinc 6 1, 3) := dk_132 6 1 (dk_at dksX9_which_4 0 rfl rfl)
theorem dX9_which_97 : decode cX9_which 97 = .ok (.goto (-53), 3) := dk_167 255 203 (dk_at dksX9_which_4 3 rfl rfl)
theorem dX9_which_100 : decode cX9_which 100 = .ok (.iload 5, 2) := dk_21 5 (dk_at dksX9_which_4 6 rfl rfl)
theorem dX9_which_102 : decode cX9_which 102 = .ok (.ifCond .eq 12, 3) := dk_153 0 12 (dk_at dksX9_which_4 8 rfl rfl)
theorem dX9_which_105 : decode cX9_which 105 = .ok (.iload_n 2, 1) := dk_28 (dk_at dksX9_which_4 11 rfl rfl)
theorem dX9_which_106 : decode cX9_which 106 = .ok (.ifCond .ne 8, 3) := dk_154 0 8 (dk_at dksX9_which_4 12 rfl rfl)
theorem dX9_which_109 : decode cX9_which 109 = .ok (.iload 4, 2) := dk_21 4 (dk_at dksX9_which_4 15 rfl rfl)
theorem dX9_which_111 : decode cX9_which 111 = .ok (.goto 4, 3) := dk_167 0 4 (dk_at dksX9_which_4 17 rfl rfl)
theorem dX9_which_114 : decode cX9_which 114 = .ok (.iload_n 3, 1) := dk_29 (dk_at dksX9_which_4 20 rfl rfl)
theorem dX9_which_115 : decode cX9_which 115 = .ok (.istore_n 3, 1) := dk_62 (dk_at dksX9_which_4 21 rfl rfl)
theorem dX9_which_116 : decode cX9_which 116 = .ok (.iload_n 2, 1) := dk_28 (dk_at dksX9_which_4 22 rfl rfl)
theorem dX9_which_117 : decode cX9_which 117 = .ok (.iload 5, 2) := dk_21 5 (dk_at dksX9_which_5 0 rfl rfl)
theorem dX9_which_119 : decode cX9_which 119 = .ok (.ifCond .eq 7, 3) := dk_153 0 7 (dk_at dksX9_which_5 2 rfl rfl)
theorem dX9_which_122 : decode cX9_which 122 = .ok (.iconst 1, 1) := dk_4 (dk_at dksX9_which_5 5 rfl rfl)
theorem dX9_which_123 : decode cX9_which 123 = .ok (.goto 4, 3) := dk_167 0 4 (dk_at dksX9_which_5 6 rfl rfl)
theorem dX9_which_126 : decode cX9_which 126 = .ok (.iconst 0, 1) := dk_3 (dk_at dksX9_which_5 9 rfl rfl)
theorem dX9_which_127 : decode cX9_which 127 = .ok (.iadd, 1) := dk_96 (dk_at dksX9_which_5 10 rfl rfl)
theorem dX9_which_128 : decode cX9_which 128 = .ok (.istore_n 2, 1) := dk_61 (dk_at dksX9_which_5 11 rfl rfl)
theorem dX9_which_129 : decode cX9_which 129 = .ok (.iinc 4 1, 3) := dk_132 4 1 (dk_at dksX9_which_5 12 rfl rfl)
theorem dX9_which_132 : decode cX9_which 132 = .ok (.goto (-108), 3) := dk_167 255 148 (dk_at dksX9_which_5 15 rfl rfl)
theorem dX9_which_135 : decode cX9_which 135 = .ok (.iload_n 1, 1) := dk_27 (dk_at dksX9_which_5 18 rfl rfl)
theorem dX9_which_136 : decode cX9_which 136 = .ok (.ifCond .ne 7, 3) := dk_154 0 7 (dk_at dksX9_which_5 19 rfl rfl)
theorem dX9_which_139 : decode cX9_which 139 = .ok (.iload_n 2, 1) := dk_28 (dk_at dksX9_which_5 22 rfl rfl)
theorem dX9_which_140 : decode cX9_which 140 = .ok (.goto 4, 3) := dk_167 0 4 (dk_at dksX9_which_6 0 rfl rfl)
theorem dX9_which_143 : decode cX9_which 143 = .ok (.iload_n 3, 1) := dk_29 (dk_at dksX9_which_6 3 rfl rfl)
theorem dX9_which_144 : decode cX9_which 144 = .ok (.ireturn, 1) := dk_172 (dk_at dksX9_which_6 4 rfl rfl)
abbrev cX9_odds : ByteArray := prog_13_method_48_code
def yX9_odds : MethodName := ⟨RX9, "odds", "(I)I"⟩
def dkwX9_odds_3 : List UInt8 := [54, 4, 27, 154, 0, 10, 28, 21, 4, 108, 167, 0, 7, 29, 21, 4, 108, 172]
abbrev dktX9_odds_3 : List UInt8 := dkwX9_odds_3 ++ []
def dkwX9_odds_2 : List UInt8 := [182, 0, 172, 153, 0, 7, 4, 167, 0, 4, 3, 96, 61, 132, 4, 1, 167, 255, 217, 28, 29, 184, 0, 178]
abbrev dktX9_odds_2 : List UInt8 := dkwX9_odds_2 ++ dktX9_odds_3
def dkwX9_odds_1 : List UInt8 := [21, 4, 42, 182, 0, 165, 162, 0, 36, 42, 21, 4, 182, 0, 169, 153, 0, 21, 132, 3, 1, 28, 42]
abbrev dktX9_odds_1 : List UInt8 := dkwX9_odds_1 ++ dktX9_odds_2
def dkwX9_odds_0 : List UInt8 := [42, 3, 181, 0, 68, 27, 3, 4, 184, 0, 72, 154, 0, 5, 2, 172, 3, 61, 3, 62, 3, 54, 4]
abbrev dktX9_odds_0 : List UInt8 := dkwX9_odds_0 ++ dktX9_odds_1
theorem dksX9_odds_0 : cX9_odds.data.toList.drop 0 = dktX9_odds_0 := by decide +kernel
theorem dksX9_odds_1 : cX9_odds.data.toList.drop 23 = dktX9_odds_1 := dk_seg dksX9_odds_0 23 rfl rfl
theorem dksX9_odds_2 : cX9_odds.data.toList.drop 46 = dktX9_odds_2 := dk_seg dksX9_odds_1 23 rfl rfl
theorem dksX9_odds_3 : cX9_odds.data.toList.drop 70 = dktX9_odds_3 := dk_seg dksX9_odds_2 24 rfl rfl
theorem dX9_odds_0 : decode cX9_odds 0 = .ok (.aload_n 0, 1) := dk_42 (dk_at dksX9_odds_0 0 rfl rfl)
theorem dX9_odds_1 : decode cX9_odds 1 = .ok (.iconst 0, 1) := dk_3 (dk_at dksX9_odds_0 1 rfl rfl)
theorem dX9_odds_2 : decode cX9_odds 2 = .ok (.putfield 68, 3) := dk_181 0 68 (dk_at dksX9_odds_0 2 rfl rfl)
theorem dX9_odds_5 : decode cX9_odds 5 = .ok (.iload_n 1, 1) := dk_27 (dk_at dksX9_odds_0 5 rfl rfl)
theorem dX9_odds_6 : decode cX9_odds 6 = .ok (.iconst 0, 1) := dk_3 (dk_at dksX9_odds_0 6 rfl rfl)
theorem dX9_odds_7 : decode cX9_odds 7 = .ok (.iconst 1, 1) := dk_4 (dk_at dksX9_odds_0 7 rfl rfl)
theorem dX9_odds_8 : decode cX9_odds 8 = .ok (.invokestatic 72, 3) := dk_184 0 72 (dk_at dksX9_odds_0 8 rfl rfl)
theorem dX9_odds_11 : decode cX9_odds 11 = .ok (.ifCond .ne 5, 3) := dk_154 0 5 (dk_at dksX9_odds_0 11 rfl rfl)
theorem dX9_odds_14 : decode cX9_odds 14 = .ok (.iconst (-1), 1) := dk_2 (dk_at dksX9_odds_0 14 rfl rfl)
theorem dX9_odds_15 : decode cX9_odds 15 = .ok (.ireturn, 1) := dk_172 (dk_at dksX9_odds_0 15 rfl rfl)
theorem dX9_odds_16 : decode cX9_odds 16 = .ok (.iconst 0, 1) := dk_3 (dk_at dksX9_odds_0 16 rfl rfl)
theorem dX9_odds_17 : decode cX9_odds 17 = .ok (.istore_n 2, 1) := dk_61 (dk_at dksX9_odds_0 17 rfl rfl)
theorem dX9_odds_18 : decode cX9_odds 18 = .ok (.iconst 0, 1) := dk_3 (dk_at dksX9_odds_0 18 rfl rfl)
theorem dX9_odds_19 : decode cX9_odds 19 = .ok (.istore_n 3, 1) := dk_62 (dk_at dksX9_odds_0 19 rfl rfl)
theorem dX9_odds_20 : decode cX9_odds 20 = .ok (.iconst 0, 1) := dk_3 (dk_at dksX9_odds_0 20 rfl rfl)
theorem dX9_odds_21 : decode cX9_odds 21 = .ok (.istore 4, 2) := dk_54 4 (dk_at dksX9_odds_0 21 rfl rfl)
theorem dX9_odds_23 : decode cX9_odds 23 = .ok (.iload 4, 2) := dk_21 4 (dk_at dksX9_odds_1 0 rfl rfl)
theorem dX9_odds_25 : decode cX9_odds 25 = .ok (.aload_n 0, 1) := dk_42 (dk_at dksX9_odds_1 2 rfl rfl)
theorem dX9_odds_26 : decode cX9_odds 26 = .ok (.invokevirtual 165, 3) := dk_182 0 165 (dk_at dksX9_odds_1 3 rfl rfl)
theorem dX9_odds_29 : decode cX9_odds 29 = .ok (.if_icmp .ge 36, 3) := dk_162 0 36 (dk_at dksX9_odds_1 6 rfl rfl)
theorem dX9_odds_32 : decode cX9_odds 32 = .ok (.aload_n 0, 1) := dk_42 (dk_at dksX9_odds_1 9 rfl rfl)
theorem dX9_odds_33 : decode cX9_odds 33 = .ok (.iload 4, 2) := dk_21 4 (dk_at dksX9_odds_1 10 rfl rfl)
theorem dX9_odds_35 : decode cX9_odds 35 = .ok (.invokevirtual 169, 3) := dk_182 0 169 (dk_at dksX9_odds_1 12 rfl rfl)
theorem dX9_odds_38 : decode cX9_odds 38 = .ok (.ifCond .eq 21, 3) := dk_153 0 21 (dk_at dksX9_odds_1 15 rfl rfl)
theorem dX9_odds_41 : decode cX9_odds 41 = .ok (.iinc 3 1, 3) := dk_132 3 1 (dk_at dksX9_odds_1 18 rfl rfl)
theorem dX9_odds_44 : decode cX9_odds 44 = .ok (.iload_n 2, 1) := dk_28 (dk_at dksX9_odds_1 21 rfl rfl)
theorem dX9_odds_45 : decode cX9_odds 45 = .ok (.aload_n 0, 1) := dk_42 (dk_at dksX9_odds_1 22 rfl rfl)
theorem dX9_odds_46 : decode cX9_odds 46 = .ok (.invokevirtual 172, 3) := dk_182 0 172 (dk_at dksX9_odds_2 0 rfl rfl)
theorem dX9_odds_49 : decode cX9_odds 49 = .ok (.ifCond .eq 7, 3) := dk_153 0 7 (dk_at dksX9_odds_2 3 rfl rfl)
theorem dX9_odds_52 : decode cX9_odds 52 = .ok (.iconst 1, 1) := dk_4 (dk_at dksX9_odds_2 6 rfl rfl)
theorem dX9_odds_53 : decode cX9_odds 53 = .ok (.goto 4, 3) := dk_167 0 4 (dk_at dksX9_odds_2 7 rfl rfl)
theorem dX9_odds_56 : decode cX9_odds 56 = .ok (.iconst 0, 1) := dk_3 (dk_at dksX9_odds_2 10 rfl rfl)
theorem dX9_odds_57 : decode cX9_odds 57 = .ok (.iadd, 1) := dk_96 (dk_at dksX9_odds_2 11 rfl rfl)
theorem dX9_odds_58 : decode cX9_odds 58 = .ok (.istore_n 2, 1) := dk_61 (dk_at dksX9_odds_2 12 rfl rfl)
theorem dX9_odds_59 : decode cX9_odds 59 = .ok (.iinc 4 1, 3) := dk_132 4 1 (dk_at dksX9_odds_2 13 rfl rfl)
theorem dX9_odds_62 : decode cX9_odds 62 = .ok (.goto (-39), 3) := dk_167 255 217 (dk_at dksX9_odds_2 16 rfl rfl)
theorem dX9_odds_65 : decode cX9_odds 65 = .ok (.iload_n 2, 1) := dk_28 (dk_at dksX9_odds_2 19 rfl rfl)
theorem dX9_odds_66 : decode cX9_odds 66 = .ok (.iload_n 3, 1) := dk_29 (dk_at dksX9_odds_2 20 rfl rfl)
theorem dX9_odds_67 : decode cX9_odds 67 = .ok (.invokestatic 178, 3) := dk_184 0 178 (dk_at dksX9_odds_2 21 rfl rfl)
theorem dX9_odds_70 : decode cX9_odds 70 = .ok (.istore 4, 2) := dk_54 4 (dk_at dksX9_odds_3 0 rfl rfl)
theorem dX9_odds_72 : decode cX9_odds 72 = .ok (.iload_n 1, 1) := dk_27 (dk_at dksX9_odds_3 2 rfl rfl)
theorem dX9_odds_73 : decode cX9_odds 73 = .ok (.ifCond .ne 10, 3) := dk_154 0 10 (dk_at dksX9_odds_3 3 rfl rfl)
theorem dX9_odds_76 : decode cX9_odds 76 = .ok (.iload_n 2, 1) := dk_28 (dk_at dksX9_odds_3 6 rfl rfl)
theorem dX9_odds_77 : decode cX9_odds 77 = .ok (.iload 4, 2) := dk_21 4 (dk_at dksX9_odds_3 7 rfl rfl)
theorem dX9_odds_79 : decode cX9_odds 79 = .ok (.idiv, 1) := dk_108 (dk_at dksX9_odds_3 9 rfl rfl)
theorem dX9_odds_80 : decode cX9_odds 80 = .ok (.goto 7, 3) := dk_167 0 7 (dk_at dksX9_odds_3 10 rfl rfl)
theorem dX9_odds_83 : decode cX9_odds 83 = .ok (.iload_n 3, 1) := dk_29 (dk_at dksX9_odds_3 13 rfl rfl)
theorem dX9_odds_84 : decode cX9_odds 84 = .ok (.iload 4, 2) := dk_21 4 (dk_at dksX9_odds_3 14 rfl rfl)
theorem dX9_odds_86 : decode cX9_odds 86 = .ok (.idiv, 1) := dk_108 (dk_at dksX9_odds_3 16 rfl rfl)
theorem dX9_odds_87 : decode cX9_odds 87 = .ok (.ireturn, 1) := dk_172 (dk_at dksX9_odds_3 17 rfl rfl)
abbrev cX9_gcd : ByteArray := prog_13_method_47_code
def yX9_gcd : MethodName := ⟨RX9, "gcd", "(II)I"⟩
def dkwX9_gcd_0 : List UInt8 := [26, 61, 27, 62, 29, 153, 0, 16, 28, 29, 112, 54, 4, 29, 61, 21, 4, 62, 167, 255, 242, 28, 172]
abbrev dktX9_gcd_0 : List UInt8 := dkwX9_gcd_0 ++ []
theorem dksX9_gcd_0 : cX9_gcd.data.toList.drop 0 = dktX9_gcd_0 := by decide +kernel
theorem dX9_gcd_0 : decode cX9_gcd 0 = .ok (.iload_n 0, 1) := dk_26 (dk_at dksX9_gcd_0 0 rfl rfl)
theorem dX9_gcd_1 : decode cX9_gcd 1 = .ok (.istore_n 2, 1) := dk_61 (dk_at dksX9_gcd_0 1 rfl rfl)
theorem dX9_gcd_2 : decode cX9_gcd 2 = .ok (.iload_n 1, 1) := dk_27 (dk_at dksX9_gcd_0 2 rfl rfl)
theorem dX9_gcd_3 : decode cX9_gcd 3 = .ok (.istore_n 3, 1) := dk_62 (dk_at dksX9_gcd_0 3 rfl rfl)
theorem dX9_gcd_4 : decode cX9_gcd 4 = .ok (.iload_n 3, 1) := dk_29 (dk_at dksX9_gcd_0 4 rfl rfl)
theorem dX9_gcd_5 : decode cX9_gcd 5 = .ok (.ifCond .eq 16, 3) := dk_153 0 16 (dk_at dksX9_gcd_0 5 rfl rfl)
theorem dX9_gcd_8 : decode cX9_gcd 8 = .ok (.iload_n 2, 1) := dk_28 (dk_at dksX9_gcd_0 8 rfl rfl)
theorem dX9_gcd_9 : decode cX9_gcd 9 = .ok (.iload_n 3, 1) := dk_29 (dk_at dksX9_gcd_0 9 rfl rfl)
theorem dX9_gcd_10 : decode cX9_gcd 10 = .ok (.irem, 1) := dk_112 (dk_at dksX9_gcd_0 10 rfl rfl)
theorem dX9_gcd_11 : decode cX9_gcd 11 = .ok (.istore 4, 2) := dk_54 4 (dk_at dksX9_gcd_0 11 rfl rfl)
theorem dX9_gcd_13 : decode cX9_gcd 13 = .ok (.iload_n 3, 1) := dk_29 (dk_at dksX9_gcd_0 13 rfl rfl)
theorem dX9_gcd_14 : decode cX9_gcd 14 = .ok (.istore_n 2, 1) := dk_61 (dk_at dksX9_gcd_0 14 rfl rfl)
theorem dX9_gcd_15 : decode cX9_gcd 15 = .ok (.iload 4, 2) := dk_21 4 (dk_at dksX9_gcd_0 15 rfl rfl)
theorem dX9_gcd_17 : decode cX9_gcd 17 = .ok (.istore_n 3, 1) := dk_62 (dk_at dksX9_gcd_0 17 rfl rfl)
theorem dX9_gcd_18 : decode cX9_gcd 18 = .ok (.goto (-14), 3) := dk_167 255 242 (dk_at dksX9_gcd_0 18 rfl rfl)
theorem dX9_gcd_21 : decode cX9_gcd 21 = .ok (.iload_n 2, 1) := dk_28 (dk_at dksX9_gcd_0 21 rfl rfl)
theorem dX9_gcd_22 : decode cX9_gcd 22 = .ok (.ireturn, 1) := dk_172 (dk_at dksX9_gcd_0 22 rfl rfl)
abbrev cX9_rate : ByteArray := prog_13_method_49_code
def yX9_rate : MethodName := ⟨RX9, "rate", "(II)I"⟩
def dkwX9_rate_8 : List UInt8 := [172]
abbrev dktX9_rate_8 : List UInt8 := dkwX9_rate_8 ++ []
def dkwX9_rate_7 : List UInt8 := [104, 167, 0, 23, 27, 7, 160, 0, 10, 21, 4, 28, 96, 167, 0, 11, 29, 42, 180, 0, 40, 3, 46, 96]
abbrev dktX9_rate_7 : List UInt8 := dkwX9_rate_7 ++ dktX9_rate_8
def dkwX9_rate_6 : List UInt8 := [27, 5, 160, 0, 8, 21, 4, 167, 0, 41, 27, 6, 160, 0, 16, 5, 29, 42, 180, 0, 22, 28, 46, 96]
abbrev dktX9_rate_6 : List UInt8 := dkwX9_rate_6 ++ dktX9_rate_7
def dkwX9_rate_5 : List UInt8 := [27, 154, 0, 7, 29, 167, 0, 67, 27, 4, 160, 0, 14, 29, 42, 180, 0, 22, 28, 46, 96, 167, 0, 51]
abbrev dktX9_rate_5 : List UInt8 := dkwX9_rate_5 ++ dktX9_rate_6
def dkwX9_rate_4 : List UInt8 := [20, 0, 190, 167, 0, 17, 27, 7, 160, 0, 9, 20, 0, 192, 167, 0, 6, 20, 0, 194, 97, 181, 0, 182]
abbrev dktX9_rate_4 : List UInt8 := dkwX9_rate_4 ++ dktX9_rate_5
def dkwX9_rate_3 : List UInt8 := [20, 0, 186, 167, 0, 39, 27, 5, 160, 0, 9, 20, 0, 188, 167, 0, 28, 27, 6, 160, 0, 9]
abbrev dktX9_rate_3 : List UInt8 := dkwX9_rate_3 ++ dktX9_rate_4
def dkwX9_rate_2 : List UInt8 := [46, 100, 54, 4, 42, 89, 180, 0, 182, 27, 154, 0, 7, 10, 167, 0, 50, 27, 4, 160, 0, 9]
abbrev dktX9_rate_2 : List UInt8 := dkwX9_rate_2 ++ dktX9_rate_3
def dkwX9_rate_1 : List UInt8 := [172, 42, 180, 0, 19, 28, 46, 62, 29, 42, 180, 0, 40, 16, 8, 42, 180, 0, 40, 28, 184, 0, 131, 96]
abbrev dktX9_rate_1 : List UInt8 := dkwX9_rate_1 ++ dktX9_rate_2
def dkwX9_rate_0 : List UInt8 := [42, 3, 181, 0, 68, 27, 3, 8, 184, 0, 72, 153, 0, 11, 42, 28, 182, 0, 127, 154, 0, 6, 18, 181]
abbrev dktX9_rate_0 : List UInt8 := dkwX9_rate_0 ++ dktX9_rate_1
theorem dksX9_rate_0 : cX9_rate.data.toList.drop 0 = dktX9_rate_0 := by decide +kernel
theorem dksX9_rate_1 : cX9_rate.data.toList.drop 24 = dktX9_rate_1 := dk_seg dksX9_rate_0 24 rfl rfl
theorem dksX9_rate_2 : cX9_rate.data.toList.drop 48 = dktX9_rate_2 := dk_seg dksX9_rate_1 24 rfl rfl
theorem dksX9_rate_3 : cX9_rate.data.toList.drop 70 = dktX9_rate_3 := dk_seg dksX9_rate_2 22 rfl rfl
theorem dksX9_rate_4 : cX9_rate.data.toList.drop 92 = dktX9_rate_4 := dk_seg dksX9_rate_3 22 rfl rfl
theorem dksX9_rate_5 : cX9_rate.data.toList.drop 116 = dktX9_rate_5 := dk_seg dksX9_rate_4 24 rfl rfl
theorem dksX9_rate_6 : cX9_rate.data.toList.drop 140 = dktX9_rate_6 := dk_seg dksX9_rate_5 24 rfl rfl
theorem dksX9_rate_7 : cX9_rate.data.toList.drop 164 = dktX9_rate_7 := dk_seg dksX9_rate_6 24 rfl rfl
theorem dksX9_rate_8 : cX9_rate.data.toList.drop 188 = dktX9_rate_8 := dk_seg dksX9_rate_7 24 rfl rfl
theorem dX9_rate_0 : decode cX9_rate 0 = .ok (.aload_n 0, 1) := dk_42 (dk_at dksX9_rate_0 0 rfl rfl)
theorem dX9_rate_1 : decode cX9_rate 1 = .ok (.iconst 0, 1) := dk_3 (dk_at dksX9_rate_0 1 rfl rfl)
theorem dX9_rate_2 : decode cX9_rate 2 = .ok (.putfield 68, 3) := dk_181 0 68 (dk_at dksX9_rate_0 2 rfl rfl)
theorem dX9_rate_5 : decode cX9_rate 5 = .ok (.iload_n 1, 1) := dk_27 (dk_at dksX9_rate_0 5 rfl rfl)
theorem dX9_rate_6 : decode cX9_rate 6 = .ok (.iconst 0, 1) := dk_3 (dk_at dksX9_rate_0 6 rfl rfl)
theorem dX9_rate_7 : decode cX9_rate 7 = .ok (.iconst 5, 1) := dk_8 (dk_at dksX9_rate_0 7 rfl rfl)
theorem dX9_rate_8 : decode cX9_rate 8 = .ok (.invokestatic 72, 3) := dk_184 0 72 (dk_at dksX9_rate_0 8 rfl rfl)
theorem dX9_rate_11 : decode cX9_rate 11 = .ok (.ifCond .eq 11, 3) := dk_153 0 11 (dk_at dksX9_rate_0 11 rfl rfl)
theorem dX9_rate_14 : decode cX9_rate 14 = .ok (.aload_n 0, 1) := dk_42 (dk_at dksX9_rate_0 14 rfl rfl)
theorem dX9_rate_15 : decode cX9_rate 15 = .ok (.iload_n 2, 1) := dk_28 (dk_at dksX9_rate_0 15 rfl rfl)
theorem dX9_rate_16 : decode cX9_rate 16 = .ok (.invokevirtual 127, 3) := dk_182 0 127 (dk_at dksX9_rate_0 16 rfl rfl)
theorem dX9_rate_19 : decode cX9_rate 19 = .ok (.ifCond .ne 6, 3) := dk_154 0 6 (dk_at dksX9_rate_0 19 rfl rfl)
theorem dX9_rate_22 : decode cX9_rate 22 = .ok (.ldc 181, 2) := dk_18 181 (dk_at dksX9_rate_0 22 rfl rfl)
theorem dX9_rate_24 : decode cX9_rate 24 = .ok (.ireturn, 1) := dk_172 (dk_at dksX9_rate_1 0 rfl rfl)
theorem dX9_rate_25 : decode cX9_rate 25 = .ok (.aload_n 0, 1) := dk_42 (dk_at dksX9_rate_1 1 rfl rfl)
theorem dX9_rate_26 : decode cX9_rate 26 = .ok (.getfield 19, 3) := dk_180 0 19 (dk_at dksX9_rate_1 2 rfl rfl)
theorem dX9_rate_29 : decode cX9_rate 29 = .ok (.iload_n 2, 1) := dk_28 (dk_at dksX9_rate_1 5 rfl rfl)
theorem dX9_rate_30 : decode cX9_rate 30 = .ok (.iaload, 1) := dk_46 (dk_at dksX9_rate_1 6 rfl rfl)
theorem dX9_rate_31 : decode cX9_rate 31 = .ok (.istore_n 3, 1) := dk_62 (dk_at dksX9_rate_1 7 rfl rfl)
theorem dX9_rate_32 : decode cX9_rate 32 = .ok (.iload_n 3, 1) := dk_29 (dk_at dksX9_rate_1 8 rfl rfl)
theorem dX9_rate_33 : decode cX9_rate 33 = .ok (.aload_n 0, 1) := dk_42 (dk_at dksX9_rate_1 9 rfl rfl)
theorem dX9_rate_34 : decode cX9_rate 34 = .ok (.getfield 40, 3) := dk_180 0 40 (dk_at dksX9_rate_1 10 rfl rfl)
theorem dX9_rate_37 : decode cX9_rate 37 = .ok (.bipush 8, 2) := dk_16 8 (dk_at dksX9_rate_1 13 rfl rfl)
theorem dX9_rate_39 : decode cX9_rate 39 = .ok (.aload_n 0, 1) := dk_42 (dk_at dksX9_rate_1 15 rfl rfl)
theorem dX9_rate_40 : decode cX9_rate 40 = .ok (.getfield 40, 3) := dk_180 0 40 (dk_at dksX9_rate_1 16 rfl rfl)
theorem dX9_rate_43 : decode cX9_rate 43 = .ok (.iload_n 2, 1) := dk_28 (dk_at dksX9_rate_1 19 rfl rfl)
theorem dX9_rate_44 : decode cX9_rate 44 = .ok (.invokestatic 131, 3) := dk_184 0 131 (dk_at dksX9_rate_1 20 rfl rfl)
theorem dX9_rate_47 : decode cX9_rate 47 = .ok (.iadd, 1) := dk_96 (dk_at dksX9_rate_1 23 rfl rfl)
theorem dX9_rate_48 : decode cX9_rate 48 = .ok (.iaload, 1) := dk_46 (dk_at dksX9_rate_2 0 rfl rfl)
theorem dX9_rate_49 : decode cX9_rate 49 = .ok (.isub, 1) := dk_100 (dk_at dksX9_rate_2 1 rfl rfl)
theorem dX9_rate_50 : decode cX9_rate 50 = .ok (.istore 4, 2) := dk_54 4 (dk_at dksX9_rate_2 2 rfl rfl)
theorem dX9_rate_52 : decode cX9_rate 52 = .ok (.aload_n 0, 1) := dk_42 (dk_at dksX9_rate_2 4 rfl rfl)
theorem dX9_rate_53 : decode cX9_rate 53 = .ok (.dup, 1) := dk_89 (dk_at dksX9_rate_2 5 rfl rfl)
theorem dX9_rate_54 : decode cX9_rate 54 = .ok (.getfield 182, 3) := dk_180 0 182 (dk_at dksX9_rate_2 6 rfl rfl)
theorem dX9_rate_57 : decode cX9_rate 57 = .ok (.iload_n 1, 1) := dk_27 (dk_at dksX9_rate_2 9 rfl rfl)
theorem dX9_rate_58 : decode cX9_rate 58 = .ok (.ifCond .ne 7, 3) := dk_154 0 7 (dk_at dksX9_rate_2 10 rfl rfl)
theorem dX9_rate_61 : decode cX9_rate 61 = .ok (.lconst 1, 1) := dk_10 (dk_at dksX9_rate_2 13 rfl rfl)
theorem dX9_rate_62 : decode cX9_rate 62 = .ok (.goto 50, 3) := dk_167 0 50 (dk_at dksX9_rate_2 14 rfl rfl)
theorem dX9_rate_65 : decode cX9_rate 65 = .ok (.iload_n 1, 1) := dk_27 (dk_at dksX9_rate_2 17 rfl rfl)
theorem dX9_rate_66 : decode cX9_rate 66 = .ok (.iconst 1, 1) := dk_4 (dk_at dksX9_rate_2 18 rfl rfl)
theorem dX9_rate_67 : decode cX9_rate 67 = .ok (.if_icmp .ne 9, 3) := dk_160 0 9 (dk_at dksX9_rate_2 19 rfl rfl)
theorem dX9_rate_70 : decode cX9_rate 70 = .ok (.ldc2_w 186, 3) := dk_20 0 186 (dk_at dksX9_rate_3 0 rfl rfl)
theorem dX9_rate_73 : decode cX9_rate 73 = .ok (.goto 39, 3) := dk_167 0 39 (dk_at dksX9_rate_3 3 rfl rfl)
theorem dX9_rate_76 : decode cX9_rate 76 = .ok (.iload_n 1, 1) := dk_27 (dk_at dksX9_rate_3 6 rfl rfl)
theorem dX9_rate_77 : decode cX9_rate 77 = .ok (.iconst 2, 1) := dk_5 (dk_at dksX9_rate_3 7 rfl rfl)
theorem dX9_rate_78 : decode cX9_rate 78 = .ok (.if_icmp .ne 9, 3) := dk_160 0 9 (dk_at dksX9_rate_3 8 rfl rfl)
theorem dX9_rate_81 : decode cX9_rate 81 = .ok (.ldc2_w 188, 3) := dk_20 0 188 (dk_at dksX9_rate_3 11 rfl rfl)
theorem dX9_rate_84 : decode cX9_rate 84 = .ok (.goto 28, 3) := dk_167 0 28 (dk_at dksX9_rate_3 14 rfl rfl)
theorem dX9_rate_87 : decode cX9_rate 87 = .ok (.iload_n 1, 1) := dk_27 (dk_at dksX9_rate_3 17 rfl rfl)
theorem dX9_rate_88 : decode cX9_rate 88 = .ok (.iconst 3, 1) := dk_6 (dk_at dksX9_rate_3 18 rfl rfl)
theorem dX9_rate_89 : decode cX9_rate 89 = .ok (.if_icmp .ne 9, 3) := dk_160 0 9 (dk_at dksX9_rate_3 19 rfl rfl)
theorem dX9_rate_92 : decode cX9_rate 92 = .ok (.ldc2_w 190, 3) := dk_20 0 190 (dk_at dksX9_rate_4 0 rfl rfl)
theorem dX9_rate_95 : decode cX9_rate 95 = .ok (.goto 17, 3) := dk_167 0 17 (dk_at dksX9_rate_4 3 rfl rfl)
theorem dX9_rate_98 : decode cX9_rate 98 = .ok (.iload_n 1, 1) := dk_27 (dk_at dksX9_rate_4 6 rfl rfl)
theorem dX9_rate_99 : decode cX9_rate 99 = .ok (.iconst 4, 1) := dk_7 (dk_at dksX9_rate_4 7 rfl rfl)
theorem dX9_rate_100 : decode cX9_rate 100 = .ok (.if_icmp .ne 9, 3) := dk_160 0 9 (dk_at dksX9_rate_4 8 rfl rfl)
theorem dX9_rate_103 : decode cX9_rate 103 = .ok (.ldc2_w 192, 3) := dk_20 0 192 (dk_at dksX9_rate_4 11 rfl rfl)
theorem dX9_rate_106 : decode cX9_rate 106 = .ok (.goto 6, 3) := dk_167 0 6 (dk_at dksX9_rate_4 14 rfl rfl)
theorem dX9_rate_109 : decode cX9_rate 109 = .ok (.ldc2_w 194, 3) := dk_20 0 194 (dk_at dksX9_rate_4 17 rfl rfl)
theorem dX9_rate_112 : decode cX9_rate 112 = .ok (.ladd, 1) := dk_97 (dk_at dksX9_rate_4 20 rfl rfl)
theorem dX9_rate_113 : decode cX9_rate 113 = .ok (.putfield 182, 3) := dk_181 0 182 (dk_at dksX9_rate_4 21 rfl rfl)
theorem dX9_rate_116 : decode cX9_rate 116 = .ok (.iload_n 1, 1) := dk_27 (dk_at dksX9_rate_5 0 rfl rfl)
theorem dX9_rate_117 : decode cX9_rate 117 = .ok (.ifCond .ne 7, 3) := dk_154 0 7 (dk_at dksX9_rate_5 1 rfl rfl)
theorem dX9_rate_120 : decode cX9_rate 120 = .ok (.iload_n 3, 1) := dk_29 (dk_at dksX9_rate_5 4 rfl rfl)
theorem dX9_rate_121 : decode cX9_rate 121 = .ok (.goto 67, 3) := dk_167 0 67 (dk_at dksX9_rate_5 5 rfl rfl)
theorem dX9_rate_124 : decode cX9_rate 124 = .ok (.iload_n 1, 1) := dk_27 (dk_at dksX9_rate_5 8 rfl rfl)
theorem dX9_rate_125 : decode cX9_rate 125 = .ok (.iconst 1, 1) := dk_4 (dk_at dksX9_rate_5 9 rfl rfl)
theorem dX9_rate_126 : decode cX9_rate 126 = .ok (.if_icmp .ne 14, 3) := dk_160 0 14 (dk_at dksX9_rate_5 10 rfl rfl)
theorem dX9_rate_129 : decode cX9_rate 129 = .ok (.iload_n 3, 1) := dk_29 (dk_at dksX9_rate_5 13 rfl rfl)
theorem dX9_rate_130 : decode cX9_rate 130 = .ok (.aload_n 0, 1) := dk_42 (dk_at dksX9_rate_5 14 rfl rfl)
theorem dX9_rate_131 : decode cX9_rate 131 = .ok (.getfield 22, 3) := dk_180 0 22 (dk_at dksX9_rate_5 15 rfl rfl)
theorem dX9_rate_134 : decode cX9_rate 134 = .ok (.iload_n 2, 1) := dk_28 (dk_at dksX9_rate_5 18 rfl rfl)
theorem dX9_rate_135 : decode cX9_rate 135 = .ok (.iaload, 1) := dk_46 (dk_at dksX9_rate_5 19 rfl rfl)
theorem dX9_rate_136 : decode cX9_rate 136 = .ok (.iadd, 1) := dk_96 (dk_at dksX9_rate_5 20 rfl rfl)
theorem dX9_rate_137 : decode cX9_rate 137 = .ok (.goto 51, 3) := dk_167 0 51 (dk_at dksX9_rate_5 21 rfl rfl)
theorem dX9_rate_140 : decode cX9_rate 140 = .ok (.iload_n 1, 1) := dk_27 (dk_at dksX9_rate_6 0 rfl rfl)
theorem dX9_rate_141 : decode cX9_rate 141 = .ok (.iconst 2, 1) := dk_5 (dk_at dksX9_rate_6 1 rfl rfl)
theorem dX9_rate_142 : decode cX9_rate 142 = .ok (.if_icmp .ne 8, 3) := dk_160 0 8 (dk_at dksX9_rate_6 2 rfl rfl)
theorem dX9_rate_145 : decode cX9_rate 145 = .ok (.iload 4, 2) := dk_21 4 (dk_at dksX9_rate_6 5 rfl rfl)
theorem dX9_rate_147 : decode cX9_rate 147 = .ok (.goto 41, 3) := dk_167 0 41 (dk_at dksX9_rate_6 7 rfl rfl)
theorem dX9_rate_150 : decode cX9_rate 150 = .ok (.iload_n 1, 1) := dk_27 (dk_at dksX9_rate_6 10 rfl rfl)
theorem dX9_rate_151 : decode cX9_rate 151 = .ok (.iconst 3, 1) := dk_6 (dk_at dksX9_rate_6 11 rfl rfl)
theorem dX9_rate_152 : decode cX9_rate 152 = .ok (.if_icmp .ne 16, 3) := dk_160 0 16 (dk_at dksX9_rate_6 12 rfl rfl)
theorem dX9_rate_155 : decode cX9_rate 155 = .ok (.iconst 2, 1) := dk_5 (dk_at dksX9_rate_6 15 rfl rfl)
theorem dX9_rate_156 : decode cX9_rate 156 = .ok (.iload_n 3, 1) := dk_29 (dk_at dksX9_rate_6 16 rfl rfl)
theorem dX9_rate_157 : decode cX9_rate 157 = .ok (.aload_n 0, 1) := dk_42 (dk_at dksX9_rate_6 17 rfl rfl)
theorem dX9_rate_158 : decode cX9_rate 158 = .ok (.getfield 22, 3) := dk_180 0 22 (dk_at dksX9_rate_6 18 rfl rfl)
theorem dX9_rate_161 : decode cX9_rate 161 = .ok (.iload_n 2, 1) := dk_28 (dk_at dksX9_rate_6 21 rfl rfl)
theorem dX9_rate_162 : decode cX9_rate 162 = .ok (.iaload, 1) := dk_46 (dk_at dksX9_rate_6 22 rfl rfl)
theorem dX9_rate_163 : decode cX9_rate 163 = .ok (.iadd, 1) := dk_96 (dk_at dksX9_rate_6 23 rfl rfl)
theorem dX9_rate_164 : decode cX9_rate 164 = .ok (.imul, 1) := dk_104 (dk_at dksX9_rate_7 0 rfl rfl)
theorem dX9_rate_165 : decode cX9_rate 165 = .ok (.goto 23, 3) := dk_167 0 23 (dk_at dksX9_rate_7 1 rfl rfl)
theorem dX9_rate_168 : decode cX9_rate 168 = .ok (.iload_n 1, 1) := dk_27 (dk_at dksX9_rate_7 4 rfl rfl)
theorem dX9_rate_169 : decode cX9_rate 169 = .ok (.iconst 4, 1) := dk_7 (dk_at dksX9_rate_7 5 rfl rfl)
theorem dX9_rate_170 : decode cX9_rate 170 = .ok (.if_icmp .ne 10, 3) := dk_160 0 10 (dk_at dksX9_rate_7 6 rfl rfl)
theorem dX9_rate_173 : decode cX9_rate 173 = .ok (.iload 4, 2) := dk_21 4 (dk_at dksX9_rate_7 9 rfl rfl)
theorem dX9_rate_175 : decode cX9_rate 175 = .ok (.iload_n 2, 1) := dk_28 (dk_at dksX9_rate_7 11 rfl rfl)
theorem dX9_rate_176 : decode cX9_rate 176 = .ok (.iadd, 1) := dk_96 (dk_at dksX9_rate_7 12 rfl rfl)
theorem dX9_rate_177 : decode cX9_rate 177 = .ok (.goto 11, 3) := dk_167 0 11 (dk_at dksX9_rate_7 13 rfl rfl)
theorem dX9_rate_180 : decode cX9_rate 180 = .ok (.iload_n 3, 1) := dk_29 (dk_at dksX9_rate_7 16 rfl rfl)
theorem dX9_rate_181 : decode cX9_rate 181 = .ok (.aload_n 0, 1) := dk_42 (dk_at dksX9_rate_7 17 rfl rfl)
theorem dX9_rate_182 : decode cX9_rate 182 = .ok (.getfield 40, 3) := dk_180 0 40 (dk_at dksX9_rate_7 18 rfl rfl)
theorem dX9_rate_185 : decode cX9_rate 185 = .ok (.iconst 0, 1) := dk_3 (dk_at dksX9_rate_7 21 rfl rfl)
theorem dX9_rate_186 : decode cX9_rate 186 = .ok (.iaload, 1) := dk_46 (dk_at dksX9_rate_7 22 rfl rfl)
theorem dX9_rate_187 : decode cX9_rate 187 = .ok (.iadd, 1) := dk_96 (dk_at dksX9_rate_7 23 rfl rfl)
theorem dX9_rate_188 : decode cX9_rate 188 = .ok (.ireturn, 1) := dk_172 (dk_at dksX9_rate_8 0 rfl rfl)
abbrev cX9_keep : ByteArray := prog_13_method_50_code
def yX9_keep : MethodName := ⟨RX9, "keep", "(I)I"⟩
def dkwX9_keep_2 : List UInt8 := [180, 0, 49, 27, 4, 84, 42, 180, 0, 40, 3, 46, 172]
abbrev dktX9_keep_2 : List UInt8 := dkwX9_keep_2 ++ []
def dkwX9_keep_1 : List UInt8 := [42, 180, 0, 46, 16, 56, 27, 104, 28, 96, 42, 180, 0, 40, 28, 46, 79, 132, 2, 1, 167, 255, 230, 42]
abbrev dktX9_keep_1 : List UInt8 := dkwX9_keep_1 ++ dktX9_keep_2
def dkwX9_keep_0 : List UInt8 := [42, 3, 181, 0, 68, 27, 3, 4, 184, 0, 72, 154, 0, 5, 2, 172, 3, 61, 28, 16, 56, 162, 0, 26]
abbrev dktX9_keep_0 : List UInt8 := dkwX9_keep_0 ++ dktX9_keep_1
theorem dksX9_keep_0 : cX9_keep.data.toList.drop 0 = dktX9_keep_0 := by decide +kernel
theorem dksX9_keep_1 : cX9_keep.data.toList.drop 24 = dktX9_keep_1 := dk_seg dksX9_keep_0 24 rfl rfl
theorem dksX9_keep_2 : cX9_keep.data.toList.drop 48 = dktX9_keep_2 := dk_seg dksX9_keep_1 24 rfl rfl
theorem dX9_keep_0 : decode cX9_keep 0 = .ok (.aload_n 0, 1) := dk_42 (dk_at dksX9_keep_0 0 rfl rfl)
theorem dX9_keep_1 : decode cX9_keep 1 = .ok (.iconst 0, 1) := dk_3 (dk_at dksX9_keep_0 1 rfl rfl)
theorem dX9_keep_2 : decode cX9_keep 2 = .ok (.putfield 68, 3) := dk_181 0 68 (dk_at dksX9_keep_0 2 rfl rfl)
theorem dX9_keep_5 : decode cX9_keep 5 = .ok (.iload_n 1, 1) := dk_27 (dk_at dksX9_keep_0 5 rfl rfl)
theorem dX9_keep_6 : decode cX9_keep 6 = .ok (.iconst 0, 1) := dk_3 (dk_at dksX9_keep_0 6 rfl rfl)
theorem dX9_keep_7 : decode cX9_keep 7 = .ok (.iconst 1, 1) := dk_4 (dk_at dksX9_keep_0 7 rfl rfl)
theorem dX9_keep_8 : decode cX9_keep 8 = .ok (.invokestatic 72, 3) := dk_184 0 72 (dk_at dksX9_keep_0 8 rfl rfl)
theorem dX9_keep_11 : decode cX9_keep 11 = .ok (.ifCond .ne 5, 3) := dk_154 0 5 (dk_at dksX9_keep_0 11 rfl rfl)
theorem dX9_keep_14 : decode cX9_keep 14 = .ok (.iconst (-1), 1) := dk_2 (dk_at dksX9_keep_0 14 rfl rfl)
theorem dX9_keep_15 : decode cX9_keep 15 = .ok (.ireturn, 1) := dk_172 (dk_at dksX9_keep_0 15 rfl rfl)
theorem dX9_keep_16 : decode cX9_keep 16 = .ok (.iconst 0, 1) := dk_3 (dk_at dksX9_keep_0 16 rfl rfl)
theorem dX9_keep_17 : decode cX9_keep 17 = .ok (.istore_n 2, 1) := dk_61 (dk_at dksX9_keep_0 17 rfl rfl)
theorem dX9_keep_18 : decode cX9_keep 18 = .ok (.iload_n 2, 1) := dk_28 (dk_at dksX9_keep_0 18 rfl rfl)
theorem dX9_keep_19 : decode cX9_keep 19 = .ok (.bipush 56, 2) := dk_16 56 (dk_at dksX9_keep_0 19 rfl rfl)
theorem dX9_keep_21 : decode cX9_keep 21 = .ok (.if_icmp .ge 26, 3) := dk_162 0 26 (dk_at dksX9_keep_0 21 rfl rfl)
theorem dX9_keep_24 : decode cX9_keep 24 = .ok (.aload_n 0, 1) := dk_42 (dk_at dksX9_keep_1 0 rfl rfl)
theorem dX9_keep_25 : decode cX9_keep 25 = .ok (.getfield 46, 3) := dk_180 0 46 (dk_at dksX9_keep_1 1 rfl rfl)
theorem dX9_keep_28 : decode cX9_keep 28 = .ok (.bipush 56, 2) := dk_16 56 (dk_at dksX9_keep_1 4 rfl rfl)
theorem dX9_keep_30 : decode cX9_keep 30 = .ok (.iload_n 1, 1) := dk_27 (dk_at dksX9_keep_1 6 rfl rfl)
theorem dX9_keep_31 : decode cX9_keep 31 = .ok (.imul, 1) := dk_104 (dk_at dksX9_keep_1 7 rfl rfl)
theorem dX9_keep_32 : decode cX9_keep 32 = .ok (.iload_n 2, 1) := dk_28 (dk_at dksX9_keep_1 8 rfl rfl)
theorem dX9_keep_33 : decode cX9_keep 33 = .ok (.iadd, 1) := dk_96 (dk_at dksX9_keep_1 9 rfl rfl)
theorem dX9_keep_34 : decode cX9_keep 34 = .ok (.aload_n 0, 1) := dk_42 (dk_at dksX9_keep_1 10 rfl rfl)
theorem dX9_keep_35 : decode cX9_keep 35 = .ok (.getfield 40, 3) := dk_180 0 40 (dk_at dksX9_keep_1 11 rfl rfl)
theorem dX9_keep_38 : decode cX9_keep 38 = .ok (.iload_n 2, 1) := dk_28 (dk_at dksX9_keep_1 14 rfl rfl)
theorem dX9_keep_39 : decode cX9_keep 39 = .ok (.iaload, 1) := dk_46 (dk_at dksX9_keep_1 15 rfl rfl)
theorem dX9_keep_40 : decode cX9_keep 40 = .ok (.iastore, 1) := dk_79 (dk_at dksX9_keep_1 16 rfl rfl)
theorem dX9_keep_41 : decode cX9_keep 41 = .ok (.iinc 2 1, 3) := dk_132 2 1 (dk_at dksX9_keep_1 17 rfl rfl)
theorem dX9_keep_44 : decode cX9_keep 44 = .ok (.goto (-26), 3) := dk_167 255 230 (dk_at dksX9_keep_1 20 rfl rfl)
theorem dX9_keep_47 : decode cX9_keep 47 = .ok (.aload_n 0, 1) := dk_42 (dk_at dksX9_keep_1 23 rfl rfl)
theorem dX9_keep_48 : decode cX9_keep 48 = .ok (.getfield 49, 3) := dk_180 0 49 (dk_at dksX9_keep_2 0 rfl rfl)
theorem dX9_keep_51 : decode cX9_keep 51 = .ok (.iload_n 1, 1) := dk_27 (dk_at dksX9_keep_2 3 rfl rfl)
theorem dX9_keep_52 : decode cX9_keep 52 = .ok (.iconst 1, 1) := dk_4 (dk_at dksX9_keep_2 4 rfl rfl)
theorem dX9_keep_53 : decode cX9_keep 53 = .ok (.bastore, 1) := dk_84 (dk_at dksX9_keep_2 5 rfl rfl)
theorem dX9_keep_54 : decode cX9_keep 54 = .ok (.aload_n 0, 1) := dk_42 (dk_at dksX9_keep_2 6 rfl rfl)
theorem dX9_keep_55 : decode cX9_keep 55 = .ok (.getfield 40, 3) := dk_180 0 40 (dk_at dksX9_keep_2 7 rfl rfl)
theorem dX9_keep_58 : decode cX9_keep 58 = .ok (.iconst 0, 1) := dk_3 (dk_at dksX9_keep_2 10 rfl rfl)
theorem dX9_keep_59 : decode cX9_keep 59 = .ok (.iaload, 1) := dk_46 (dk_at dksX9_keep_2 11 rfl rfl)
theorem dX9_keep_60 : decode cX9_keep 60 = .ok (.ireturn, 1) := dk_172 (dk_at dksX9_keep_2 12 rfl rfl)
abbrev cX9_back : ByteArray := prog_13_method_51_code
def yX9_back : MethodName := ⟨RX9, "back", "(I)I"⟩
def dkwX9_back_3 : List UInt8 := [46, 172]
abbrev dktX9_back_3 : List UInt8 := dkwX9_back_3 ++ []
def dkwX9_back_2 : List UInt8 := [16, 56, 27, 104, 28, 96, 46, 79, 132, 2, 1, 167, 255, 230, 42, 3, 181, 0, 124, 42, 180, 0, 40, 3]
abbrev dktX9_back_2 : List UInt8 := dkwX9_back_2 ++ dktX9_back_3
def dkwX9_back_1 : List UInt8 := [154, 0, 6, 16, 254, 172, 3, 61, 28, 16, 56, 162, 0, 26, 42, 180, 0, 40, 28, 42, 180, 0, 46]
abbrev dktX9_back_1 : List UInt8 := dkwX9_back_1 ++ dktX9_back_2
def dkwX9_back_0 : List UInt8 := [42, 3, 181, 0, 68, 27, 3, 4, 184, 0, 72, 154, 0, 5, 2, 172, 42, 180, 0, 49, 27, 51]
abbrev dktX9_back_0 : List UInt8 := dkwX9_back_0 ++ dktX9_back_1
theorem dksX9_back_0 : cX9_back.data.toList.drop 0 = dktX9_back_0 := by decide +kernel
theorem dksX9_back_1 : cX9_back.data.toList.drop 22 = dktX9_back_1 := dk_seg dksX9_back_0 22 rfl rfl
theorem dksX9_back_2 : cX9_back.data.toList.drop 45 = dktX9_back_2 := dk_seg dksX9_back_1 23 rfl rfl
theorem dksX9_back_3 : cX9_back.data.toList.drop 69 = dktX9_back_3 := dk_seg dksX9_back_2 24 rfl rfl
theorem dX9_back_0 : decode cX9_back 0 = .ok (.aload_n 0, 1) := dk_42 (dk_at dksX9_back_0 0 rfl rfl)
theorem dX9_back_1 : decode cX9_back 1 = .ok (.iconst 0, 1) := dk_3 (dk_at dksX9_back_0 1 rfl rfl)
theorem dX9_back_2 : decode cX9_back 2 = .ok (.putfield 68, 3) := dk_181 0 68 (dk_at dksX9_back_0 2 rfl rfl)
theorem dX9_back_5 : decode cX9_back 5 = .ok (.iload_n 1, 1) := dk_27 (dk_at dksX9_back_0 5 rfl rfl)
theorem dX9_back_6 : decode cX9_back 6 = .ok (.iconst 0, 1) := dk_3 (dk_at dksX9_back_0 6 rfl rfl)
theorem dX9_back_7 : decode cX9_back 7 = .ok (.iconst 1, 1) := dk_4 (dk_at dksX9_back_0 7 rfl rfl)
theorem dX9_back_8 : decode cX9_back 8 = .ok (.invokestatic 72, 3) := dk_184 0 72 (dk_at dksX9_back_0 8 rfl rfl)
theorem dX9_back_11 : decode cX9_back 11 = .ok (.ifCond .ne 5, 3) := dk_154 0 5 (dk_at dksX9_back_0 11 rfl rfl)
theorem dX9_back_14 : decode cX9_back 14 = .ok (.iconst (-1), 1) := dk_2 (dk_at dksX9_back_0 14 rfl rfl)
theorem dX9_back_15 : decode cX9_back 15 = .ok (.ireturn, 1) := dk_172 (dk_at dksX9_back_0 15 rfl rfl)
theorem dX9_back_16 : decode cX9_back 16 = .ok (.aload_n 0, 1) := dk_42 (dk_at dksX9_back_0 16 rfl rfl)
theorem dX9_back_17 : decode cX9_back 17 = .ok (.getfield 49, 3) := dk_180 0 49 (dk_at dksX9_back_0 17 rfl rfl)
theorem dX9_back_20 : decode cX9_back 20 = .ok (.iload_n 1, 1) := dk_27 (dk_at dksX9_back_0 20 rfl rfl)
theorem dX9_back_21 : decode cX9_back 21 = .ok (.baload, 1) := dk_51 (dk_at dksX9_back_0 21 rfl rfl)
theorem dX9_back_22 : decode cX9_back 22 = .ok (.ifCond .ne 6, 3) := dk_154 0 6 (dk_at dksX9_back_1 0 rfl rfl)
theorem dX9_back_25 : decode cX9_back 25 = .ok (.bipush (-2), 2) := dk_16 254 (dk_at dksX9_back_1 3 rfl rfl)
theorem dX9_back_27 : decode cX9_back 27 = .ok (.ireturn, 1) := dk_172 (dk_at dksX9_back_1 5 rfl rfl)
theorem dX9_back_28 : decode cX9_back 28 = .ok (.iconst 0, 1) := dk_3 (dk_at dksX9_back_1 6 rfl rfl)
theorem dX9_back_29 : decode cX9_back 29 = .ok (.istore_n 2, 1) := dk_61 (dk_at dksX9_back_1 7 rfl rfl)
theorem dX9_back_30 : decode cX9_back 30 = .ok (.iload_n 2, 1) := dk_28 (dk_at dksX9_back_1 8 rfl rfl)
theorem dX9_back_31 : decode cX9_back 31 = .ok (.bipush 56, 2) := dk_16 56 (dk_at dksX9_back_1 9 rfl rfl)
theorem dX9_back_33 : decode cX9_back 33 = .ok (.if_icmp .ge 26, 3) := dk_162 0 26 (dk_at dksX9_back_1 11 rfl rfl)
theorem dX9_back_36 : decode cX9_back 36 = .ok (.aload_n 0, 1) := dk_42 (dk_at dksX9_back_1 14 rfl rfl)
theorem dX9_back_37 : decode cX9_back 37 = .ok (.getfield 40, 3) := dk_180 0 40 (dk_at dksX9_back_1 15 rfl rfl)
theorem dX9_back_40 : decode cX9_back 40 = .ok (.iload_n 2, 1) := dk_28 (dk_at dksX9_back_1 18 rfl rfl)
theorem dX9_back_41 : decode cX9_back 41 = .ok (.aload_n 0, 1) := dk_42 (dk_at dksX9_back_1 19 rfl rfl)
theorem dX9_back_42 : decode cX9_back 42 = .ok (.getfield 46, 3) := dk_180 0 46 (dk_at dksX9_back_1 20 rfl rfl)
theorem dX9_back_45 : decode cX9_back 45 = .ok (.bipush 56, 2) := dk_16 56 (dk_at dksX9_back_2 0 rfl rfl)
theorem dX9_back_47 : decode cX9_back 47 = .ok (.iload_n 1, 1) := dk_27 (dk_at dksX9_back_2 2 rfl rfl)
theorem dX9_back_48 : decode cX9_back 48 = .ok (.imul, 1) := dk_104 (dk_at dksX9_back_2 3 rfl rfl)
theorem dX9_back_49 : decode cX9_back 49 = .ok (.iload_n 2, 1) := dk_28 (dk_at dksX9_back_2 4 rfl rfl)
theorem dX9_back_50 : decode cX9_back 50 = .ok (.iadd, 1) := dk_96 (dk_at dksX9_back_2 5 rfl rfl)
theorem dX9_back_51 : decode cX9_back 51 = .ok (.iaload, 1) := dk_46 (dk_at dksX9_back_2 6 rfl rfl)
theorem dX9_back_52 : decode cX9_back 52 = .ok (.iastore, 1) := dk_79 (dk_at dksX9_back_2 7 rfl rfl)
theorem dX9_back_53 : decode cX9_back 53 = .ok (.iinc 2 1, 3) := dk_132 2 1 (dk_at dksX9_back_2 8 rfl rfl)
theorem dX9_back_56 : decode cX9_back 56 = .ok (.goto (-26), 3) := dk_167 255 230 (dk_at dksX9_back_2 11 rfl rfl)
theorem dX9_back_59 : decode cX9_back 59 = .ok (.aload_n 0, 1) := dk_42 (dk_at dksX9_back_2 14 rfl rfl)
theorem dX9_back_60 : decode cX9_back 60 = .ok (.iconst 0, 1) := dk_3 (dk_at dksX9_back_2 15 rfl rfl)
theorem dX9_back_61 : decode cX9_back 61 = .ok (.putfield 124, 3) := dk_181 0 124 (dk_at dksX9_back_2 16 rfl rfl)
theorem dX9_back_64 : decode cX9_back 64 = .ok (.aload_n 0, 1) := dk_42 (dk_at dksX9_back_2 19 rfl rfl)
theorem dX9_back_65 : decode cX9_back 65 = .ok (.getfield 40, 3) := dk_180 0 40 (dk_at dksX9_back_2 20 rfl rfl)
theorem dX9_back_68 : decode cX9_back 68 = .ok (.iconst 0, 1) := dk_3 (dk_at dksX9_back_2 23 rfl rfl)
theorem dX9_back_69 : decode cX9_back 69 = .ok (.iaload, 1) := dk_46 (dk_at dksX9_back_3 0 rfl rfl)
theorem dX9_back_70 : decode cX9_back 70 = .ok (.ireturn, 1) := dk_172 (dk_at dksX9_back_3 1 rfl rfl)
abbrev cX9_count : ByteArray := prog_13_method_53_code
def yX9_count : MethodName := ⟨RX9, "count", "(I)I"⟩
def dkwX9_count_2 : List UInt8 := [160, 0, 10, 42, 180, 0, 121, 167, 0, 16, 27, 7, 160, 0, 10, 42, 180, 0, 76, 167, 0, 4, 2, 172]
abbrev dktX9_count_2 : List UInt8 := dkwX9_count_2 ++ []
def dkwX9_count_1 : List UInt8 := [182, 0, 196, 167, 0, 42, 27, 5, 160, 0, 12, 42, 180, 0, 13, 4, 46, 167, 0, 28, 27, 6]
abbrev dktX9_count_1 : List UInt8 := dkwX9_count_1 ++ dktX9_count_2
def dkwX9_count_0 : List UInt8 := [42, 3, 181, 0, 68, 27, 154, 0, 12, 42, 180, 0, 13, 3, 46, 167, 0, 54, 27, 4, 160, 0, 10, 42]
abbrev dktX9_count_0 : List UInt8 := dkwX9_count_0 ++ dktX9_count_1
theorem dksX9_count_0 : cX9_count.data.toList.drop 0 = dktX9_count_0 := by decide +kernel
theorem dksX9_count_1 : cX9_count.data.toList.drop 24 = dktX9_count_1 := dk_seg dksX9_count_0 24 rfl rfl
theorem dksX9_count_2 : cX9_count.data.toList.drop 46 = dktX9_count_2 := dk_seg dksX9_count_1 22 rfl rfl
theorem dX9_count_0 : decode cX9_count 0 = .ok (.aload_n 0, 1) := dk_42 (dk_at dksX9_count_0 0 rfl rfl)
theorem dX9_count_1 : decode cX9_count 1 = .ok (.iconst 0, 1) := dk_3 (dk_at dksX9_count_0 1 rfl rfl)
theorem dX9_count_2 : decode cX9_count 2 = .ok (.putfield 68, 3) := dk_181 0 68 (dk_at dksX9_count_0 2 rfl rfl)
theorem dX9_count_5 : decode cX9_count 5 = .ok (.iload_n 1, 1) := dk_27 (dk_at dksX9_count_0 5 rfl rfl)
theorem dX9_count_6 : decode cX9_count 6 = .ok (.ifCond .ne 12, 3) := dk_154 0 12 (dk_at dksX9_count_0 6 rfl rfl)
theorem dX9_count_9 : decode cX9_count 9 = .ok (.aload_n 0, 1) := dk_42 (dk_at dksX9_count_0 9 rfl rfl)
theorem dX9_count_10 : decode cX9_count 10 = .ok (.getfield 13, 3) := dk_180 0 13 (dk_at dksX9_count_0 10 rfl rfl)
theorem dX9_count_13 : decode cX9_count 13 = .ok (.iconst 0, 1) := dk_3 (dk_at dksX9_count_0 13 rfl rfl)
theorem dX9_count_14 : decode cX9_count 14 = .ok (.iaload, 1) := dk_46 (dk_at dksX9_count_0 14 rfl rfl)
theorem dX9_count_15 : decode cX9_count 15 = .ok (.goto 54, 3) := dk_167 0 54 (dk_at dksX9_count_0 15 rfl rfl)
theorem dX9_count_18 : decode cX9_count 18 = .ok (.iload_n 1, 1) := dk_27 (dk_at dksX9_count_0 18 rfl rfl)
theorem dX9_count_19 : decode cX9_count 19 = .ok (.iconst 1, 1) := dk_4 (dk_at dksX9_count_0 19 rfl rfl)
theorem dX9_count_20 : decode cX9_count 20 = .ok (.if_icmp .ne 10, 3) := dk_160 0 10 (dk_at dksX9_count_0 20 rfl rfl)
theorem dX9_count_23 : decode cX9_count 23 = .ok (.aload_n 0, 1) := dk_42 (dk_at dksX9_count_0 23 rfl rfl)
theorem dX9_count_24 : decode cX9_count 24 = .ok (.invokevirtual 196, 3) := dk_182 0 196 (dk_at dksX9_count_1 0 rfl rfl)
theorem dX9_count_27 : decode cX9_count 27 = .ok (.goto 42, 3) := dk_167 0 42 (dk_at dksX9_count_1 3 rfl rfl)
theorem dX9_count_30 : decode cX9_count 30 = .ok (.iload_n 1, 1) := dk_27 (dk_at dksX9_count_1 6 rfl rfl)
theorem dX9_count_31 : decode cX9_count 31 = .ok (.iconst 2, 1) := dk_5 (dk_at dksX9_count_1 7 rfl rfl)
theorem dX9_count_32 : decode cX9_count 32 = .ok (.if_icmp .ne 12, 3) := dk_160 0 12 (dk_at dksX9_count_1 8 rfl rfl)
theorem dX9_count_35 : decode cX9_count 35 = .ok (.aload_n 0, 1) := dk_42 (dk_at dksX9_count_1 11 rfl rfl)
theorem dX9_count_36 : decode cX9_count 36 = .ok (.getfield 13, 3) := dk_180 0 13 (dk_at dksX9_count_1 12 rfl rfl)
theorem dX9_count_39 : decode cX9_count 39 = .ok (.iconst 1, 1) := dk_4 (dk_at dksX9_count_1 15 rfl rfl)
theorem dX9_count_40 : decode cX9_count 40 = .ok (.iaload, 1) := dk_46 (dk_at dksX9_count_1 16 rfl rfl)
theorem dX9_count_41 : decode cX9_count 41 = .ok (.goto 28, 3) := dk_167 0 28 (dk_at dksX9_count_1 17 rfl rfl)
theorem dX9_count_44 : decode cX9_count 44 = .ok (.iload_n 1, 1) := dk_27 (dk_at dksX9_count_1 20 rfl rfl)
theorem dX9_count_45 : decode cX9_count 45 = .ok (.iconst 3, 1) := dk_6 (dk_at dksX9_count_1 21 rfl rfl)
theorem dX9_count_46 : decode cX9_count 46 = .ok (.if_icmp .ne 10, 3) := dk_160 0 10 (dk_at dksX9_count_2 0 rfl rfl)
theorem dX9_count_49 : decode cX9_count 49 = .ok (.aload_n 0, 1) := dk_42 (dk_at dksX9_count_2 3 rfl rfl)
theorem dX9_count_50 : decode cX9_count 50 = .ok (.getfield 121, 3) := dk_180 0 121 (dk_at dksX9_count_2 4 rfl rfl)
theorem dX9_count_53 : decode cX9_count 53 = .ok (.goto 16, 3) := dk_167 0 16 (dk_at dksX9_count_2 7 rfl rfl)
theorem dX9_count_56 : decode cX9_count 56 = .ok (.iload_n 1, 1) := dk_27 (dk_at dksX9_count_2 10 rfl rfl)
theorem dX9_count_57 : decode cX9_count 57 = .ok (.iconst 4, 1) := dk_7 (dk_at dksX9_count_2 11 rfl rfl)
theorem dX9_count_58 : decode cX9_count 58 = .ok (.if_icmp .ne 10, 3) := dk_160 0 10 (dk_at dksX9_count_2 12 rfl rfl)
theorem dX9_count_61 : decode cX9_count 61 = .ok (.aload_n 0, 1) := dk_42 (dk_at dksX9_count_2 15 rfl rfl)
theorem dX9_count_62 : decode cX9_count 62 = .ok (.getfield 76, 3) := dk_180 0 76 (dk_at dksX9_count_2 16 rfl rfl)
theorem dX9_count_65 : decode cX9_count 65 = .ok (.goto 4, 3) := dk_167 0 4 (dk_at dksX9_count_2 19 rfl rfl)
theorem dX9_count_68 : decode cX9_count 68 = .ok (.iconst (-1), 1) := dk_2 (dk_at dksX9_count_2 22 rfl rfl)
theorem dX9_count_69 : decode cX9_count 69 = .ok (.ireturn, 1) := dk_172 (dk_at dksX9_count_2 23 rfl rfl)
abbrev cX9_roads : ByteArray := prog_13_method_52_code
def yX9_roads : MethodName := ⟨RX9, "roads", "()I"⟩
def dkwX9_roads_1 : List UInt8 := [3, 96, 60, 132, 2, 1, 167, 255, 230, 27, 5, 108, 172]
abbrev dktX9_roads_1 : List UInt8 := dkwX9_roads_1 ++ []
def dkwX9_roads_0 : List UInt8 := [3, 60, 3, 61, 28, 16, 36, 162, 0, 26, 27, 42, 180, 0, 25, 28, 46, 158, 0, 7, 4, 167, 0, 4]
abbrev dktX9_roads_0 : List UInt8 := dkwX9_roads_0 ++ dktX9_roads_1
theorem dksX9_roads_0 : cX9_roads.data.toList.drop 0 = dktX9_roads_0 := by decide +kernel
theorem dksX9_roads_1 : cX9_roads.data.toList.drop 24 = dktX9_roads_1 := dk_seg dksX9_roads_0 24 rfl rfl
theorem dX9_roads_0 : decode cX9_roads 0 = .ok (.iconst 0, 1) := dk_3 (dk_at dksX9_roads_0 0 rfl rfl)
theorem dX9_roads_1 : decode cX9_roads 1 = .ok (.istore_n 1, 1) := dk_60 (dk_at dksX9_roads_0 1 rfl rfl)
theorem dX9_roads_2 : decode cX9_roads 2 = .ok (.iconst 0, 1) := dk_3 (dk_at dksX9_roads_0 2 rfl rfl)
theorem dX9_roads_3 : decode cX9_roads 3 = .ok (.istore_n 2, 1) := dk_61 (dk_at dksX9_roads_0 3 rfl rfl)
theorem dX9_roads_4 : decode cX9_roads 4 = .ok (.iload_n 2, 1) := dk_28 (dk_at dksX9_roads_0 4 rfl rfl)
theorem dX9_roads_5 : decode cX9_roads 5 = .ok (.bipush 36, 2) := dk_16 36 (dk_at dksX9_roads_0 5 rfl rfl)
theorem dX9_roads_7 : decode cX9_roads 7 = .ok (.if_icmp .ge 26, 3) := dk_162 0 26 (dk_at dksX9_roads_0 7 rfl rfl)
theorem dX9_roads_10 : decode cX9_roads 10 = .ok (.iload_n 1, 1) := dk_27 (dk_at dksX9_roads_0 10 rfl rfl)
theorem dX9_roads_11 : decode cX9_roads 11 = .ok (.aload_n 0, 1) := dk_42 (dk_at dksX9_roads_0 11 rfl rfl)
theorem dX9_roads_12 : decode cX9_roads 12 = .ok (.getfield 25, 3) := dk_180 0 25 (dk_at dksX9_roads_0 12 rfl rfl)
theorem dX9_roads_15 : decode cX9_roads 15 = .ok (.iload_n 2, 1) := dk_28 (dk_at dksX9_roads_0 15 rfl rfl)
theorem dX9_roads_16 : decode cX9_roads 16 = .ok (.iaload, 1) := dk_46 (dk_at dksX9_roads_0 16 rfl rfl)
theorem dX9_roads_17 : decode cX9_roads 17 = .ok (.ifCond .le 7, 3) := dk_158 0 7 (dk_at dksX9_roads_0 17 rfl rfl)
theorem dX9_roads_20 : decode cX9_roads 20 = .ok (.iconst 1, 1) := dk_4 (dk_at dksX9_roads_0 20 rfl rfl)
theorem dX9_roads_21 : decode cX9_roads 21 = .ok (.goto 4, 3) := dk_167 0 4 (dk_at dksX9_roads_0 21 rfl rfl)
theorem dX9_roads_24 : decode cX9_roads 24 = .ok (.iconst 0, 1) := dk_3 (dk_at dksX9_roads_1 0 rfl rfl)
theorem dX9_roads_25 : decode cX9_roads 25 = .ok (.iadd, 1) := dk_96 (dk_at dksX9_roads_1 1 rfl rfl)
theorem dX9_roads_26 : decode cX9_roads 26 = .ok (.istore_n 1, 1) := dk_60 (dk_at dksX9_roads_1 2 rfl rfl)
theorem dX9_roads_27 : decode cX9_roads 27 = .ok (.iinc 2 1, 3) := dk_132 2 1 (dk_at dksX9_roads_1 3 rfl rfl)
theorem dX9_roads_30 : decode cX9_roads 30 = .ok (.goto (-26), 3) := dk_167 255 230 (dk_at dksX9_roads_1 6 rfl rfl)
theorem dX9_roads_33 : decode cX9_roads 33 = .ok (.iload_n 1, 1) := dk_27 (dk_at dksX9_roads_1 9 rfl rfl)
theorem dX9_roads_34 : decode cX9_roads 34 = .ok (.iconst 2, 1) := dk_5 (dk_at dksX9_roads_1 10 rfl rfl)
theorem dX9_roads_35 : decode cX9_roads 35 = .ok (.idiv, 1) := dk_108 (dk_at dksX9_roads_1 11 rfl rfl)
theorem dX9_roads_36 : decode cX9_roads 36 = .ok (.ireturn, 1) := dk_172 (dk_at dksX9_roads_1 12 rfl rfl)
abbrev cX9_trace : ByteArray := prog_13_method_54_code
def yX9_trace : MethodName := ⟨RX9, "trace", "()J"⟩
def dkwX9_trace_0 : List UInt8 := [42, 3, 181, 0, 68, 42, 180, 0, 182, 173]
abbrev dktX9_trace_0 : List UInt8 := dkwX9_trace_0 ++ []
theorem dksX9_trace_0 : cX9_trace.data.toList.drop 0 = dktX9_trace_0 := by decide +kernel
theorem dX9_trace_0 : decode cX9_trace 0 = .ok (.aload_n 0, 1) := dk_42 (dk_at dksX9_trace_0 0 rfl rfl)
theorem dX9_trace_1 : decode cX9_trace 1 = .ok (.iconst 0, 1) := dk_3 (dk_at dksX9_trace_0 1 rfl rfl)
theorem dX9_trace_2 : decode cX9_trace 2 = .ok (.putfield 68, 3) := dk_181 0 68 (dk_at dksX9_trace_0 2 rfl rfl)
theorem dX9_trace_5 : decode cX9_trace 5 = .ok (.aload_n 0, 1) := dk_42 (dk_at dksX9_trace_0 5 rfl rfl)
theorem dX9_trace_6 : decode cX9_trace 6 = .ok (.getfield 182, 3) := dk_180 0 182 (dk_at dksX9_trace_0 6 rfl rfl)
theorem dX9_trace_9 : decode cX9_trace 9 = .ok (.lreturn, 1) := dk_173 (dk_at dksX9_trace_0 9 rfl rfl)
theorem q50 : (Jvm.Cond.initialized "BellLotsModel") ∈ lw_all := lw_g (lw_at lw_m1 12 rfl) rfl
theorem q790 : (Jvm.Cond.instantiable "BellLotsModel" (29 : Nat)) ∈ lw_all := lw_g (lw_at lw_m4 32 rfl) rfl
theorem q792 : (Jvm.Cond.instanceMethod ({ cls := "BellLotsModel", name := "<init>", desc := "()V" } : Jvm.MethodName)) ∈ lw_all := lw_g (lw_at lw_m4 34 rfl) rfl
theorem q793 : (Jvm.Cond.code ({ cls := "BellLotsModel", name := "<init>", desc := "()V" } : Jvm.MethodName) prog_13_method_1_code (1 : Nat) (Option.none : Option Jvm.ClassFile.FieldType)) ∈ lw_all := lw_g (lw_at lw_m4 35 rfl) rfl
theorem q794 : (Jvm.Cond.methodLink "BellLotsModel" (1 : Nat) ({ cls := "java/lang/Object", name := "<init>", desc := "()V" } : Jvm.MethodName)) ∈ lw_all := lw_g (lw_at lw_m4 36 rfl) rfl
theorem q795 : (Jvm.Cond.fieldLink "BellLotsModel" (68 : Nat) "BellLotsModel" "thrown" "I") ∈ lw_all := lw_g (lw_at lw_m4 37 rfl) rfl
theorem q796 : (Jvm.Cond.fieldLink "BellLotsModel" (182 : Nat) "BellLotsModel" "trace" "J") ∈ lw_all := lw_g (lw_at lw_m4 38 rfl) rfl
theorem q797 : (Jvm.Cond.fieldLink "BellLotsModel" (7 : Nat) "BellLotsModel" "text" "[I") ∈ lw_all := lw_g (lw_at lw_m4 39 rfl) rfl
theorem q798 : (Jvm.Cond.fieldLink "BellLotsModel" (76 : Nat) "BellLotsModel" "typed" "I") ∈ lw_all := lw_g (lw_at lw_m4 40 rfl) rfl
theorem q799 : (Jvm.Cond.fieldLink "BellLotsModel" (79 : Nat) "BellLotsModel" "next" "I") ∈ lw_all := lw_g (lw_at lw_m4 41 rfl) rfl
theorem q800 : (Jvm.Cond.fieldLink "BellLotsModel" (89 : Nat) "BellLotsModel" "token" "I") ∈ lw_all := lw_g (lw_at lw_m4 42 rfl) rfl
theorem q801 : (Jvm.Cond.fieldLink "BellLotsModel" (86 : Nat) "BellLotsModel" "place" "I") ∈ lw_all := lw_g (lw_at lw_m4 43 rfl) rfl
theorem q802 : (Jvm.Cond.fieldLink "BellLotsModel" (92 : Nat) "BellLotsModel" "value" "I") ∈ lw_all := lw_g (lw_at lw_m4 44 rfl) rfl
theorem q803 : (Jvm.Cond.fieldLink "BellLotsModel" (95 : Nat) "BellLotsModel" "fault" "I") ∈ lw_all := lw_g (lw_at lw_m4 45 rfl) rfl
theorem q804 : (Jvm.Cond.fieldLink "BellLotsModel" (13 : Nat) "BellLotsModel" "many" "[I") ∈ lw_all := lw_g (lw_at lw_m4 46 rfl) rfl
theorem q805 : (Jvm.Cond.fieldLink "BellLotsModel" (16 : Nat) "BellLotsModel" "bears" "[I") ∈ lw_all := lw_g (lw_at lw_m4 47 rfl) rfl
theorem q806 : (Jvm.Cond.fieldLink "BellLotsModel" (19 : Nat) "BellLotsModel" "weight" "[I") ∈ lw_all := lw_g (lw_at lw_m4 48 rfl) rfl
theorem q807 : (Jvm.Cond.fieldLink "BellLotsModel" (22 : Nat) "BellLotsModel" "note" "[I") ∈ lw_all := lw_g (lw_at lw_m4 49 rfl) rfl
theorem q808 : (Jvm.Cond.fieldLink "BellLotsModel" (25 : Nat) "BellLotsModel" "toll" "[I") ∈ lw_all := lw_g (lw_at lw_m4 50 rfl) rfl
theorem q809 : (Jvm.Cond.fieldLink "BellLotsModel" (28 : Nat) "BellLotsModel" "oathBell" "[I") ∈ lw_all := lw_g (lw_at lw_m4 51 rfl) rfl
theorem q810 : (Jvm.Cond.fieldLink "BellLotsModel" (31 : Nat) "BellLotsModel" "oathTown" "[I") ∈ lw_all := lw_g (lw_at lw_m4 52 rfl) rfl
theorem q811 : (Jvm.Cond.fieldLink "BellLotsModel" (34 : Nat) "BellLotsModel" "oathTerm" "[I") ∈ lw_all := lw_g (lw_at lw_m4 53 rfl) rfl
theorem q812 : (Jvm.Cond.fieldLink "BellLotsModel" (37 : Nat) "BellLotsModel" "far" "[I") ∈ lw_all := lw_g (lw_at lw_m4 54 rfl) rfl
theorem q813 : (Jvm.Cond.fieldLink "BellLotsModel" (40 : Nat) "BellLotsModel" "s" "[I") ∈ lw_all := lw_g (lw_at lw_m4 55 rfl) rfl
theorem q814 : (Jvm.Cond.fieldLink "BellLotsModel" (43 : Nat) "BellLotsModel" "w" "[I") ∈ lw_all := lw_g (lw_at lw_m4 56 rfl) rfl
theorem q815 : (Jvm.Cond.fieldLink "BellLotsModel" (46 : Nat) "BellLotsModel" "kept" "[I") ∈ lw_all := lw_g (lw_at lw_m4 57 rfl) rfl
theorem q816 : (Jvm.Cond.fieldLink "BellLotsModel" (49 : Nat) "BellLotsModel" "isKept" "[Z") ∈ lw_all := lw_g (lw_at lw_m4 58 rfl) rfl
theorem q817 : (Jvm.Cond.fieldLink "BellLotsModel" (53 : Nat) "BellLotsModel" "undos" "[I") ∈ lw_all := lw_g (lw_at lw_m4 59 rfl) rfl
theorem q818 : (Jvm.Cond.fieldLink "BellLotsModel" (124 : Nat) "BellLotsModel" "undoMany" "I") ∈ lw_all := lw_g (lw_at lw_m4 60 rfl) rfl
theorem q819 : (Jvm.Cond.fieldLink "BellLotsModel" (56 : Nat) "BellLotsModel" "foundBell" "[I") ∈ lw_all := lw_g (lw_at lw_m4 61 rfl) rfl
theorem q820 : (Jvm.Cond.fieldLink "BellLotsModel" (59 : Nat) "BellLotsModel" "foundTown" "[I") ∈ lw_all := lw_g (lw_at lw_m4 62 rfl) rfl
theorem q821 : (Jvm.Cond.fieldLink "BellLotsModel" (121 : Nat) "BellLotsModel" "foundMany" "I") ∈ lw_all := lw_g (lw_at lw_m4 63 rfl) rfl
theorem q822 : (Jvm.Cond.fieldLink "BellLotsModel" (62 : Nat) "BellLotsModel" "goes" "[I") ∈ lw_all := lw_g (lw_at lw_m4 64 rfl) rfl
theorem q823 : (Jvm.Cond.fieldLink "BellLotsModel" (65 : Nat) "BellLotsModel" "best" "[I") ∈ lw_all := lw_g (lw_at lw_m4 65 rfl) rfl
theorem q824 : (Jvm.Cond.lays "BellLotsModel" "BellLotsModel" "thrown" "I") ∈ lw_all := lw_g (lw_at lw_m4 66 rfl) rfl
theorem q825 : (Jvm.Cond.soleField "BellLotsModel" "thrown") ∈ lw_all := lw_g (lw_at lw_m4 67 rfl) rfl
theorem q826 : (Jvm.Cond.lays "BellLotsModel" "BellLotsModel" "trace" "J") ∈ lw_all := lw_g (lw_at lw_m4 68 rfl) rfl
theorem q827 : (Jvm.Cond.soleField "BellLotsModel" "trace") ∈ lw_all := lw_g (lw_at lw_m4 69 rfl) rfl
theorem q828 : (Jvm.Cond.laysFinal "BellLotsModel" "BellLotsModel" "text" "[I") ∈ lw_all := lw_g (lw_at lw_m4 70 rfl) rfl
theorem q829 : (Jvm.Cond.soleField "BellLotsModel" "text") ∈ lw_all := lw_g (lw_at lw_m4 71 rfl) rfl
theorem q830 : (Jvm.Cond.lays "BellLotsModel" "BellLotsModel" "typed" "I") ∈ lw_all := lw_g (lw_at lw_m4 72 rfl) rfl
theorem q831 : (Jvm.Cond.soleField "BellLotsModel" "typed") ∈ lw_all := lw_g (lw_at lw_m4 73 rfl) rfl
theorem q832 : (Jvm.Cond.lays "BellLotsModel" "BellLotsModel" "next" "I") ∈ lw_all := lw_g (lw_at lw_m4 74 rfl) rfl
theorem q833 : (Jvm.Cond.soleField "BellLotsModel" "next") ∈ lw_all := lw_g (lw_at lw_m4 75 rfl) rfl
theorem q834 : (Jvm.Cond.lays "BellLotsModel" "BellLotsModel" "token" "I") ∈ lw_all := lw_g (lw_at lw_m4 76 rfl) rfl
theorem q835 : (Jvm.Cond.soleField "BellLotsModel" "token") ∈ lw_all := lw_g (lw_at lw_m4 77 rfl) rfl
theorem q836 : (Jvm.Cond.lays "BellLotsModel" "BellLotsModel" "place" "I") ∈ lw_all := lw_g (lw_at lw_m4 78 rfl) rfl
theorem q837 : (Jvm.Cond.soleField "BellLotsModel" "place") ∈ lw_all := lw_g (lw_at lw_m4 79 rfl) rfl
theorem q838 : (Jvm.Cond.lays "BellLotsModel" "BellLotsModel" "value" "I") ∈ lw_all := lw_g (lw_at lw_m4 80 rfl) rfl
theorem q839 : (Jvm.Cond.soleField "BellLotsModel" "value") ∈ lw_all := lw_g (lw_at lw_m4 81 rfl) rfl
theorem q840 : (Jvm.Cond.lays "BellLotsModel" "BellLotsModel" "fault" "I") ∈ lw_all := lw_g (lw_at lw_m4 82 rfl) rfl
theorem q841 : (Jvm.Cond.soleField "BellLotsModel" "fault") ∈ lw_all := lw_g (lw_at lw_m4 83 rfl) rfl
theorem q842 : (Jvm.Cond.laysFinal "BellLotsModel" "BellLotsModel" "many" "[I") ∈ lw_all := lw_g (lw_at lw_m4 84 rfl) rfl
theorem q843 : (Jvm.Cond.soleField "BellLotsModel" "many") ∈ lw_all := lw_g (lw_at lw_m4 85 rfl) rfl
theorem q844 : (Jvm.Cond.laysFinal "BellLotsModel" "BellLotsModel" "bears" "[I") ∈ lw_all := lw_g (lw_at lw_m4 86 rfl) rfl
theorem q845 : (Jvm.Cond.soleField "BellLotsModel" "bears") ∈ lw_all := lw_g (lw_at lw_m4 87 rfl) rfl
theorem q846 : (Jvm.Cond.laysFinal "BellLotsModel" "BellLotsModel" "weight" "[I") ∈ lw_all := lw_g (lw_at lw_m4 88 rfl) rfl
theorem q847 : (Jvm.Cond.soleField "BellLotsModel" "weight") ∈ lw_all := lw_g (lw_at lw_m4 89 rfl) rfl
theorem q848 : (Jvm.Cond.laysFinal "BellLotsModel" "BellLotsModel" "note" "[I") ∈ lw_all := lw_g (lw_at lw_m4 90 rfl) rfl
theorem q849 : (Jvm.Cond.soleField "BellLotsModel" "note") ∈ lw_all := lw_g (lw_at lw_m4 91 rfl) rfl
theorem q850 : (Jvm.Cond.laysFinal "BellLotsModel" "BellLotsModel" "toll" "[I") ∈ lw_all := lw_g (lw_at lw_m4 92 rfl) rfl
theorem q851 : (Jvm.Cond.soleField "BellLotsModel" "toll") ∈ lw_all := lw_g (lw_at lw_m4 93 rfl) rfl
theorem q852 : (Jvm.Cond.laysFinal "BellLotsModel" "BellLotsModel" "oathBell" "[I") ∈ lw_all := lw_g (lw_at lw_m4 94 rfl) rfl
theorem q853 : (Jvm.Cond.soleField "BellLotsModel" "oathBell") ∈ lw_all := lw_g (lw_at lw_m4 95 rfl) rfl
theorem q854 : (Jvm.Cond.laysFinal "BellLotsModel" "BellLotsModel" "oathTown" "[I") ∈ lw_all := lw_g (lw_at lw_m4 96 rfl) rfl
theorem q855 : (Jvm.Cond.soleField "BellLotsModel" "oathTown") ∈ lw_all := lw_g (lw_at lw_m4 97 rfl) rfl
theorem q856 : (Jvm.Cond.laysFinal "BellLotsModel" "BellLotsModel" "oathTerm" "[I") ∈ lw_all := lw_g (lw_at lw_m4 98 rfl) rfl
theorem q857 : (Jvm.Cond.soleField "BellLotsModel" "oathTerm") ∈ lw_all := lw_g (lw_at lw_m4 99 rfl) rfl
theorem q858 : (Jvm.Cond.laysFinal "BellLotsModel" "BellLotsModel" "far" "[I") ∈ lw_all := lw_g (lw_at lw_m4 100 rfl) rfl
theorem q859 : (Jvm.Cond.soleField "BellLotsModel" "far") ∈ lw_all := lw_g (lw_at lw_m4 101 rfl) rfl
theorem q860 : (Jvm.Cond.laysFinal "BellLotsModel" "BellLotsModel" "s" "[I") ∈ lw_all := lw_g (lw_at lw_m4 102 rfl) rfl
theorem q861 : (Jvm.Cond.soleField "BellLotsModel" "s") ∈ lw_all := lw_g (lw_at lw_m4 103 rfl) rfl
theorem q862 : (Jvm.Cond.laysFinal "BellLotsModel" "BellLotsModel" "w" "[I") ∈ lw_all := lw_g (lw_at lw_m4 104 rfl) rfl
theorem q863 : (Jvm.Cond.soleField "BellLotsModel" "w") ∈ lw_all := lw_g (lw_at lw_m4 105 rfl) rfl
theorem q864 : (Jvm.Cond.laysFinal "BellLotsModel" "BellLotsModel" "kept" "[I") ∈ lw_all := lw_g (lw_at lw_m4 106 rfl) rfl
theorem q865 : (Jvm.Cond.soleField "BellLotsModel" "kept") ∈ lw_all := lw_g (lw_at lw_m4 107 rfl) rfl
theorem q866 : (Jvm.Cond.laysFinal "BellLotsModel" "BellLotsModel" "isKept" "[Z") ∈ lw_all := lw_g (lw_at lw_m4 108 rfl) rfl
theorem q867 : (Jvm.Cond.soleField "BellLotsModel" "isKept") ∈ lw_all := lw_g (lw_at lw_m4 109 rfl) rfl
theorem q868 : (Jvm.Cond.laysFinal "BellLotsModel" "BellLotsModel" "undos" "[I") ∈ lw_all := lw_g (lw_at lw_m4 110 rfl) rfl
theorem q869 : (Jvm.Cond.soleField "BellLotsModel" "undos") ∈ lw_all := lw_g (lw_at lw_m4 111 rfl) rfl
theorem q870 : (Jvm.Cond.lays "BellLotsModel" "BellLotsModel" "undoMany" "I") ∈ lw_all := lw_g (lw_at lw_m4 112 rfl) rfl
theorem q871 : (Jvm.Cond.soleField "BellLotsModel" "undoMany") ∈ lw_all := lw_g (lw_at lw_m4 113 rfl) rfl
theorem q872 : (Jvm.Cond.laysFinal "BellLotsModel" "BellLotsModel" "foundBell" "[I") ∈ lw_all := lw_g (lw_at lw_m4 114 rfl) rfl
theorem q873 : (Jvm.Cond.soleField "BellLotsModel" "foundBell") ∈ lw_all := lw_g (lw_at lw_m4 115 rfl) rfl
theorem q874 : (Jvm.Cond.laysFinal "BellLotsModel" "BellLotsModel" "foundTown" "[I") ∈ lw_all := lw_g (lw_at lw_m4 116 rfl) rfl
theorem q875 : (Jvm.Cond.soleField "BellLotsModel" "foundTown") ∈ lw_all := lw_g (lw_at lw_m4 117 rfl) rfl
theorem q876 : (Jvm.Cond.lays "BellLotsModel" "BellLotsModel" "foundMany" "I") ∈ lw_all := lw_g (lw_at lw_m4 118 rfl) rfl
theorem q877 : (Jvm.Cond.soleField "BellLotsModel" "foundMany") ∈ lw_all := lw_g (lw_at lw_m4 119 rfl) rfl
theorem q878 : (Jvm.Cond.laysFinal "BellLotsModel" "BellLotsModel" "goes" "[I") ∈ lw_all := lw_g (lw_at lw_m4 120 rfl) rfl
theorem q879 : (Jvm.Cond.soleField "BellLotsModel" "goes") ∈ lw_all := lw_g (lw_at lw_m4 121 rfl) rfl
theorem q880 : (Jvm.Cond.laysFinal "BellLotsModel" "BellLotsModel" "best" "[I") ∈ lw_all := lw_g (lw_at lw_m4 122 rfl) rfl
theorem q881 : (Jvm.Cond.soleField "BellLotsModel" "best") ∈ lw_all := lw_g (lw_at lw_m4 123 rfl) rfl
theorem q882 : (Jvm.Cond.superclass "BellLotsModel" "java/lang/Object") ∈ lw_all := lw_g (lw_at lw_m4 124 rfl) rfl
theorem q884 : (Jvm.Cond.instanceMethod ({ cls := "BellLotsModel", name := "type", desc := "(I)I" } : Jvm.MethodName)) ∈ lw_all := lw_g (lw_at lw_m4 126 rfl) rfl
theorem q885 : (Jvm.Cond.selects "BellLotsModel" ({ cls := "BellLotsModel", name := "type", desc := "(I)I" } : Jvm.MethodName) ({ cls := "BellLotsModel", name := "type", desc := "(I)I" } : Jvm.MethodName)) ∈ lw_all := lw_g (lw_at lw_m4 127 rfl) rfl
theorem q886 : (Jvm.Cond.code ({ cls := "BellLotsModel", name := "type", desc := "(I)I" } : Jvm.MethodName) prog_13_method_4_code (2 : Nat) (Option.some Jvm.ClassFile.FieldType.int)) ∈ lw_all := lw_g (lw_at lw_m4 128 rfl) rfl
theorem q887 : (Jvm.Cond.methodLink "BellLotsModel" (72 : Nat) ({ cls := "BellLotsModel", name := "in", desc := "(III)Z" } : Jvm.MethodName)) ∈ lw_all := lw_g (lw_at lw_m4 129 rfl) rfl
theorem q888 : (Jvm.Cond.static ({ cls := "BellLotsModel", name := "in", desc := "(III)Z" } : Jvm.MethodName)) ∈ lw_all := lw_g (lw_at lw_m4 130 rfl) rfl
theorem q889 : (Jvm.Cond.code ({ cls := "BellLotsModel", name := "in", desc := "(III)Z" } : Jvm.MethodName) prog_13_method_3_code (3 : Nat) (Option.some Jvm.ClassFile.FieldType.boolean)) ∈ lw_all := lw_g (lw_at lw_m4 131 rfl) rfl
theorem q891 : (Jvm.Cond.instanceMethod ({ cls := "BellLotsModel", name := "clear", desc := "()I" } : Jvm.MethodName)) ∈ lw_all := lw_g (lw_at lw_m4 133 rfl) rfl
theorem q892 : (Jvm.Cond.selects "BellLotsModel" ({ cls := "BellLotsModel", name := "clear", desc := "()I" } : Jvm.MethodName) ({ cls := "BellLotsModel", name := "clear", desc := "()I" } : Jvm.MethodName)) ∈ lw_all := lw_g (lw_at lw_m4 134 rfl) rfl
theorem q893 : (Jvm.Cond.code ({ cls := "BellLotsModel", name := "clear", desc := "()I" } : Jvm.MethodName) prog_13_method_5_code (2 : Nat) (Option.some Jvm.ClassFile.FieldType.int)) ∈ lw_all := lw_g (lw_at lw_m4 135 rfl) rfl
theorem q895 : (Jvm.Cond.instanceMethod ({ cls := "BellLotsModel", name := "plain", desc := "()I" } : Jvm.MethodName)) ∈ lw_all := lw_g (lw_at lw_m4 137 rfl) rfl
theorem q896 : (Jvm.Cond.selects "BellLotsModel" ({ cls := "BellLotsModel", name := "plain", desc := "()I" } : Jvm.MethodName) ({ cls := "BellLotsModel", name := "plain", desc := "()I" } : Jvm.MethodName)) ∈ lw_all := lw_g (lw_at lw_m4 138 rfl) rfl
theorem q897 : (Jvm.Cond.code ({ cls := "BellLotsModel", name := "plain", desc := "()I" } : Jvm.MethodName) prog_13_method_12_code (3 : Nat) (Option.some Jvm.ClassFile.FieldType.int)) ∈ lw_all := lw_g (lw_at lw_m4 139 rfl) rfl
theorem q898 : (Jvm.Cond.methodLink "BellLotsModel" (102 : Nat) ({ cls := "BellLotsModel", name := "advances", desc := "()V" } : Jvm.MethodName)) ∈ lw_all := lw_g (lw_at lw_m4 140 rfl) rfl
theorem q899 : (Jvm.Cond.privateMethod ({ cls := "BellLotsModel", name := "advances", desc := "()V" } : Jvm.MethodName)) ∈ lw_tbl := lw_at lw_m4 141 rfl
theorem q900 : (Jvm.Cond.instanceMethod ({ cls := "BellLotsModel", name := "advances", desc := "()V" } : Jvm.MethodName)) ∈ lw_all := lw_g (lw_at lw_m4 142 rfl) rfl
theorem q901 : (Jvm.Cond.code ({ cls := "BellLotsModel", name := "advances", desc := "()V" } : Jvm.MethodName) prog_13_method_7_code (2 : Nat) (Option.none : Option Jvm.ClassFile.FieldType)) ∈ lw_all := lw_g (lw_at lw_m4 143 rfl) rfl
theorem q902 : (Jvm.Cond.methodLink "BellLotsModel" (82 : Nat) ({ cls := "BellLotsModel", name := "letterAt", desc := "(I)I" } : Jvm.MethodName)) ∈ lw_all := lw_g (lw_at lw_m4 144 rfl) rfl
theorem q903 : (Jvm.Cond.privateMethod ({ cls := "BellLotsModel", name := "letterAt", desc := "(I)I" } : Jvm.MethodName)) ∈ lw_tbl := lw_at lw_m4 145 rfl
theorem q904 : (Jvm.Cond.instanceMethod ({ cls := "BellLotsModel", name := "letterAt", desc := "(I)I" } : Jvm.MethodName)) ∈ lw_all := lw_g (lw_at lw_m4 146 rfl) rfl
theorem q905 : (Jvm.Cond.code ({ cls := "BellLotsModel", name := "letterAt", desc := "(I)I" } : Jvm.MethodName) prog_13_method_6_code (2 : Nat) (Option.some Jvm.ClassFile.FieldType.int)) ∈ lw_all := lw_g (lw_at lw_m4 147 rfl) rfl
theorem q906 : (Jvm.Cond.methodLink "BellLotsModel" (98 : Nat) ({ cls := "BellLotsModel", name := "isWell", desc := "()Z" } : Jvm.MethodName)) ∈ lw_all := lw_g (lw_at lw_m4 148 rfl) rfl
theorem q907 : (Jvm.Cond.privateMethod ({ cls := "BellLotsModel", name := "isWell", desc := "()Z" } : Jvm.MethodName)) ∈ lw_tbl := lw_at lw_m4 149 rfl
theorem q908 : (Jvm.Cond.instanceMethod ({ cls := "BellLotsModel", name := "isWell", desc := "()Z" } : Jvm.MethodName)) ∈ lw_all := lw_g (lw_at lw_m4 150 rfl) rfl
theorem q909 : (Jvm.Cond.code ({ cls := "BellLotsModel", name := "isWell", desc := "()Z" } : Jvm.MethodName) prog_13_method_8_code (1 : Nat) (Option.some Jvm.ClassFile.FieldType.boolean)) ∈ lw_all := lw_g (lw_at lw_m4 151 rfl) rfl
theorem q910 : (Jvm.Cond.methodLink "BellLotsModel" (105 : Nat) ({ cls := "BellLotsModel", name := "takes", desc := "(Z)I" } : Jvm.MethodName)) ∈ lw_all := lw_g (lw_at lw_m4 152 rfl) rfl
theorem q911 : (Jvm.Cond.privateMethod ({ cls := "BellLotsModel", name := "takes", desc := "(Z)I" } : Jvm.MethodName)) ∈ lw_tbl := lw_at lw_m4 153 rfl
theorem q912 : (Jvm.Cond.instanceMethod ({ cls := "BellLotsModel", name := "takes", desc := "(Z)I" } : Jvm.MethodName)) ∈ lw_all := lw_g (lw_at lw_m4 154 rfl) rfl
theorem q913 : (Jvm.Cond.code ({ cls := "BellLotsModel", name := "takes", desc := "(Z)I" } : Jvm.MethodName) prog_13_method_9_code (3 : Nat) (Option.some Jvm.ClassFile.FieldType.int)) ∈ lw_all := lw_g (lw_at lw_m4 155 rfl) rfl
theorem q914 : (Jvm.Cond.methodLink "BellLotsModel" (113 : Nat) ({ cls := "BellLotsModel", name := "readsItem", desc := "(I)V" } : Jvm.MethodName)) ∈ lw_all := lw_g (lw_at lw_m4 156 rfl) rfl
theorem q915 : (Jvm.Cond.privateMethod ({ cls := "BellLotsModel", name := "readsItem", desc := "(I)V" } : Jvm.MethodName)) ∈ lw_tbl := lw_at lw_m4 157 rfl
theorem q916 : (Jvm.Cond.instanceMethod ({ cls := "BellLotsModel", name := "readsItem", desc := "(I)V" } : Jvm.MethodName)) ∈ lw_all := lw_g (lw_at lw_m4 158 rfl) rfl
theorem q917 : (Jvm.Cond.code ({ cls := "BellLotsModel", name := "readsItem", desc := "(I)V" } : Jvm.MethodName) prog_13_method_11_code (5 : Nat) (Option.none : Option Jvm.ClassFile.FieldType)) ∈ lw_all := lw_g (lw_at lw_m4 159 rfl) rfl
theorem q918 : (Jvm.Cond.methodLink "BellLotsModel" (109 : Nat) ({ cls := "BellLotsModel", name := "number", desc := "(II)I" } : Jvm.MethodName)) ∈ lw_all := lw_g (lw_at lw_m4 160 rfl) rfl
theorem q919 : (Jvm.Cond.privateMethod ({ cls := "BellLotsModel", name := "number", desc := "(II)I" } : Jvm.MethodName)) ∈ lw_tbl := lw_at lw_m4 161 rfl
theorem q920 : (Jvm.Cond.instanceMethod ({ cls := "BellLotsModel", name := "number", desc := "(II)I" } : Jvm.MethodName)) ∈ lw_all := lw_g (lw_at lw_m4 162 rfl) rfl
theorem q921 : (Jvm.Cond.code ({ cls := "BellLotsModel", name := "number", desc := "(II)I" } : Jvm.MethodName) prog_13_method_10_code (3 : Nat) (Option.some Jvm.ClassFile.FieldType.int)) ∈ lw_all := lw_g (lw_at lw_m4 163 rfl) rfl
theorem q922 : (Jvm.Cond.methodLink "BellLotsModel" (117 : Nat) ({ cls := "BellLotsModel", name := "settles", desc := "()V" } : Jvm.MethodName)) ∈ lw_all := lw_g (lw_at lw_m4 164 rfl) rfl
theorem q923 : (Jvm.Cond.privateMethod ({ cls := "BellLotsModel", name := "settles", desc := "()V" } : Jvm.MethodName)) ∈ lw_tbl := lw_at lw_m4 165 rfl
theorem q924 : (Jvm.Cond.instanceMethod ({ cls := "BellLotsModel", name := "settles", desc := "()V" } : Jvm.MethodName)) ∈ lw_all := lw_g (lw_at lw_m4 166 rfl) rfl
theorem q925 : (Jvm.Cond.code ({ cls := "BellLotsModel", name := "settles", desc := "()V" } : Jvm.MethodName) prog_13_method_13_code (4 : Nat) (Option.none : Option Jvm.ClassFile.FieldType)) ∈ lw_all := lw_g (lw_at lw_m4 167 rfl) rfl
theorem q926 : (Jvm.Cond.constant "BellLotsModel" (120 : Nat) (1000000 : Int32)) ∈ lw_all := lw_g (lw_at lw_m4 168 rfl) rfl
theorem q928 : (Jvm.Cond.instanceMethod ({ cls := "BellLotsModel", name := "town", desc := "(II)I" } : Jvm.MethodName)) ∈ lw_all := lw_g (lw_at lw_m4 170 rfl) rfl
theorem q929 : (Jvm.Cond.selects "BellLotsModel" ({ cls := "BellLotsModel", name := "town", desc := "(II)I" } : Jvm.MethodName) ({ cls := "BellLotsModel", name := "town", desc := "(II)I" } : Jvm.MethodName)) ∈ lw_all := lw_g (lw_at lw_m4 171 rfl) rfl
theorem q930 : (Jvm.Cond.code ({ cls := "BellLotsModel", name := "town", desc := "(II)I" } : Jvm.MethodName) prog_13_method_17_code (3 : Nat) (Option.some Jvm.ClassFile.FieldType.int)) ∈ lw_all := lw_g (lw_at lw_m4 172 rfl) rfl
theorem q931 : (Jvm.Cond.methodLink "BellLotsModel" (127 : Nat) ({ cls := "BellLotsModel", name := "isTown", desc := "(I)Z" } : Jvm.MethodName)) ∈ lw_all := lw_g (lw_at lw_m4 173 rfl) rfl
theorem q932 : (Jvm.Cond.privateMethod ({ cls := "BellLotsModel", name := "isTown", desc := "(I)Z" } : Jvm.MethodName)) ∈ lw_tbl := lw_at lw_m4 174 rfl
theorem q933 : (Jvm.Cond.instanceMethod ({ cls := "BellLotsModel", name := "isTown", desc := "(I)Z" } : Jvm.MethodName)) ∈ lw_all := lw_g (lw_at lw_m4 175 rfl) rfl
theorem q934 : (Jvm.Cond.code ({ cls := "BellLotsModel", name := "isTown", desc := "(I)Z" } : Jvm.MethodName) prog_13_method_14_code (2 : Nat) (Option.some Jvm.ClassFile.FieldType.boolean)) ∈ lw_all := lw_g (lw_at lw_m4 176 rfl) rfl
theorem q935 : (Jvm.Cond.methodLink "BellLotsModel" (131 : Nat) ({ cls := "BellLotsModel", name := "hangs", desc := "([II)I" } : Jvm.MethodName)) ∈ lw_all := lw_g (lw_at lw_m4 177 rfl) rfl
theorem q936 : (Jvm.Cond.static ({ cls := "BellLotsModel", name := "hangs", desc := "([II)I" } : Jvm.MethodName)) ∈ lw_all := lw_g (lw_at lw_m4 178 rfl) rfl
theorem q937 : (Jvm.Cond.code ({ cls := "BellLotsModel", name := "hangs", desc := "([II)I" } : Jvm.MethodName) prog_13_method_15_code (3 : Nat) (Option.some Jvm.ClassFile.FieldType.int)) ∈ lw_all := lw_g (lw_at lw_m4 179 rfl) rfl
theorem q938 : (Jvm.Cond.methodLink "BellLotsModel" (135 : Nat) ({ cls := "BellLotsModel", name := "isDumb", desc := "(I)Z" } : Jvm.MethodName)) ∈ lw_all := lw_g (lw_at lw_m4 180 rfl) rfl
theorem q939 : (Jvm.Cond.privateMethod ({ cls := "BellLotsModel", name := "isDumb", desc := "(I)Z" } : Jvm.MethodName)) ∈ lw_tbl := lw_at lw_m4 181 rfl
theorem q940 : (Jvm.Cond.instanceMethod ({ cls := "BellLotsModel", name := "isDumb", desc := "(I)Z" } : Jvm.MethodName)) ∈ lw_all := lw_g (lw_at lw_m4 182 rfl) rfl
theorem q941 : (Jvm.Cond.code ({ cls := "BellLotsModel", name := "isDumb", desc := "(I)Z" } : Jvm.MethodName) prog_13_method_16_code (4 : Nat) (Option.some Jvm.ClassFile.FieldType.boolean)) ∈ lw_all := lw_g (lw_at lw_m4 183 rfl) rfl
theorem q943 : (Jvm.Cond.instanceMethod ({ cls := "BellLotsModel", name := "bell", desc := "(II)I" } : Jvm.MethodName)) ∈ lw_all := lw_g (lw_at lw_m4 185 rfl) rfl
theorem q944 : (Jvm.Cond.selects "BellLotsModel" ({ cls := "BellLotsModel", name := "bell", desc := "(II)I" } : Jvm.MethodName) ({ cls := "BellLotsModel", name := "bell", desc := "(II)I" } : Jvm.MethodName)) ∈ lw_all := lw_g (lw_at lw_m4 186 rfl) rfl
theorem q945 : (Jvm.Cond.code ({ cls := "BellLotsModel", name := "bell", desc := "(II)I" } : Jvm.MethodName) prog_13_method_19_code (3 : Nat) (Option.some Jvm.ClassFile.FieldType.int)) ∈ lw_all := lw_g (lw_at lw_m4 187 rfl) rfl
theorem q946 : (Jvm.Cond.methodLink "BellLotsModel" (138 : Nat) ({ cls := "BellLotsModel", name := "fits", desc := "(I)I" } : Jvm.MethodName)) ∈ lw_all := lw_g (lw_at lw_m4 188 rfl) rfl
theorem q947 : (Jvm.Cond.privateMethod ({ cls := "BellLotsModel", name := "fits", desc := "(I)I" } : Jvm.MethodName)) ∈ lw_tbl := lw_at lw_m4 189 rfl
theorem q948 : (Jvm.Cond.instanceMethod ({ cls := "BellLotsModel", name := "fits", desc := "(I)I" } : Jvm.MethodName)) ∈ lw_all := lw_g (lw_at lw_m4 190 rfl) rfl
theorem q949 : (Jvm.Cond.code ({ cls := "BellLotsModel", name := "fits", desc := "(I)I" } : Jvm.MethodName) prog_13_method_18_code (4 : Nat) (Option.some Jvm.ClassFile.FieldType.int)) ∈ lw_all := lw_g (lw_at lw_m4 191 rfl) rfl
theorem q951 : (Jvm.Cond.instanceMethod ({ cls := "BellLotsModel", name := "far", desc := "(II)I" } : Jvm.MethodName)) ∈ lw_all := lw_g (lw_at lw_m4 193 rfl) rfl
theorem q952 : (Jvm.Cond.selects "BellLotsModel" ({ cls := "BellLotsModel", name := "far", desc := "(II)I" } : Jvm.MethodName) ({ cls := "BellLotsModel", name := "far", desc := "(II)I" } : Jvm.MethodName)) ∈ lw_all := lw_g (lw_at lw_m4 194 rfl) rfl
theorem q953 : (Jvm.Cond.code ({ cls := "BellLotsModel", name := "far", desc := "(II)I" } : Jvm.MethodName) prog_13_method_20_code (3 : Nat) (Option.some Jvm.ClassFile.FieldType.int)) ∈ lw_all := lw_g (lw_at lw_m4 195 rfl) rfl
theorem q955 : (Jvm.Cond.instanceMethod ({ cls := "BellLotsModel", name := "oath", desc := "(II)I" } : Jvm.MethodName)) ∈ lw_all := lw_g (lw_at lw_m4 197 rfl) rfl
theorem q956 : (Jvm.Cond.selects "BellLotsModel" ({ cls := "BellLotsModel", name := "oath", desc := "(II)I" } : Jvm.MethodName) ({ cls := "BellLotsModel", name := "oath", desc := "(II)I" } : Jvm.MethodName)) ∈ lw_all := lw_g (lw_at lw_m4 198 rfl) rfl
theorem q957 : (Jvm.Cond.code ({ cls := "BellLotsModel", name := "oath", desc := "(II)I" } : Jvm.MethodName) prog_13_method_21_code (3 : Nat) (Option.some Jvm.ClassFile.FieldType.int)) ∈ lw_all := lw_g (lw_at lw_m4 199 rfl) rfl
theorem q959 : (Jvm.Cond.instanceMethod ({ cls := "BellLotsModel", name := "now", desc := "(I)I" } : Jvm.MethodName)) ∈ lw_all := lw_g (lw_at lw_m4 201 rfl) rfl
theorem q960 : (Jvm.Cond.selects "BellLotsModel" ({ cls := "BellLotsModel", name := "now", desc := "(I)I" } : Jvm.MethodName) ({ cls := "BellLotsModel", name := "now", desc := "(I)I" } : Jvm.MethodName)) ∈ lw_all := lw_g (lw_at lw_m4 202 rfl) rfl
theorem q961 : (Jvm.Cond.code ({ cls := "BellLotsModel", name := "now", desc := "(I)I" } : Jvm.MethodName) prog_13_method_22_code (5 : Nat) (Option.some Jvm.ClassFile.FieldType.int)) ∈ lw_all := lw_g (lw_at lw_m4 203 rfl) rfl
theorem q963 : (Jvm.Cond.instanceMethod ({ cls := "BellLotsModel", name := "lots", desc := "(I)I" } : Jvm.MethodName)) ∈ lw_all := lw_g (lw_at lw_m4 205 rfl) rfl
theorem q964 : (Jvm.Cond.selects "BellLotsModel" ({ cls := "BellLotsModel", name := "lots", desc := "(I)I" } : Jvm.MethodName) ({ cls := "BellLotsModel", name := "lots", desc := "(I)I" } : Jvm.MethodName)) ∈ lw_all := lw_g (lw_at lw_m4 206 rfl) rfl
theorem q965 : (Jvm.Cond.code ({ cls := "BellLotsModel", name := "lots", desc := "(I)I" } : Jvm.MethodName) prog_13_method_27_code (2 : Nat) (Option.some Jvm.ClassFile.FieldType.int)) ∈ lw_all := lw_g (lw_at lw_m4 207 rfl) rfl
theorem q966 : (Jvm.Cond.methodLink "BellLotsModel" (156 : Nat) ({ cls := "BellLotsModel", name := "notes", desc := "()V" } : Jvm.MethodName)) ∈ lw_all := lw_g (lw_at lw_m4 208 rfl) rfl
theorem q967 : (Jvm.Cond.privateMethod ({ cls := "BellLotsModel", name := "notes", desc := "()V" } : Jvm.MethodName)) ∈ lw_tbl := lw_at lw_m4 209 rfl
theorem q968 : (Jvm.Cond.instanceMethod ({ cls := "BellLotsModel", name := "notes", desc := "()V" } : Jvm.MethodName)) ∈ lw_all := lw_g (lw_at lw_m4 210 rfl) rfl
theorem q969 : (Jvm.Cond.code ({ cls := "BellLotsModel", name := "notes", desc := "()V" } : Jvm.MethodName) prog_13_method_23_code (2 : Nat) (Option.none : Option Jvm.ClassFile.FieldType)) ∈ lw_all := lw_g (lw_at lw_m4 211 rfl) rfl
theorem q970 : (Jvm.Cond.methodLink "BellLotsModel" (159 : Nat) ({ cls := "BellLotsModel", name := "drawn", desc := "([II)I" } : Jvm.MethodName)) ∈ lw_all := lw_g (lw_at lw_m4 212 rfl) rfl
theorem q971 : (Jvm.Cond.privateMethod ({ cls := "BellLotsModel", name := "drawn", desc := "([II)I" } : Jvm.MethodName)) ∈ lw_tbl := lw_at lw_m4 213 rfl
theorem q972 : (Jvm.Cond.instanceMethod ({ cls := "BellLotsModel", name := "drawn", desc := "([II)I" } : Jvm.MethodName)) ∈ lw_all := lw_g (lw_at lw_m4 214 rfl) rfl
theorem q973 : (Jvm.Cond.code ({ cls := "BellLotsModel", name := "drawn", desc := "([II)I" } : Jvm.MethodName) prog_13_method_26_code (4 : Nat) (Option.some Jvm.ClassFile.FieldType.int)) ∈ lw_all := lw_g (lw_at lw_m4 215 rfl) rfl
theorem q974 : (Jvm.Cond.methodLink "BellLotsModel" (149 : Nat) ({ cls := "BellLotsModel", name := "draws", desc := "(I)V" } : Jvm.MethodName)) ∈ lw_all := lw_g (lw_at lw_m4 216 rfl) rfl
theorem q975 : (Jvm.Cond.privateMethod ({ cls := "BellLotsModel", name := "draws", desc := "(I)V" } : Jvm.MethodName)) ∈ lw_tbl := lw_at lw_m4 217 rfl
theorem q976 : (Jvm.Cond.instanceMethod ({ cls := "BellLotsModel", name := "draws", desc := "(I)V" } : Jvm.MethodName)) ∈ lw_all := lw_g (lw_at lw_m4 218 rfl) rfl
theorem q977 : (Jvm.Cond.code ({ cls := "BellLotsModel", name := "draws", desc := "(I)V" } : Jvm.MethodName) prog_13_method_24_code (8 : Nat) (Option.none : Option Jvm.ClassFile.FieldType)) ∈ lw_all := lw_g (lw_at lw_m4 219 rfl) rfl
theorem q978 : (Jvm.Cond.constantLong "BellLotsModel" (141 : Nat) (7919 : Int64)) ∈ lw_all := lw_g (lw_at lw_m4 220 rfl) rfl
theorem q979 : (Jvm.Cond.constantLong "BellLotsModel" (143 : Nat) (6151 : Int64)) ∈ lw_all := lw_g (lw_at lw_m4 221 rfl) rfl
theorem q980 : (Jvm.Cond.constantLong "BellLotsModel" (145 : Nat) (65521 : Int64)) ∈ lw_all := lw_g (lw_at lw_m4 222 rfl) rfl
theorem q981 : (Jvm.Cond.constantLong "BellLotsModel" (147 : Nat) (16 : Int64)) ∈ lw_all := lw_g (lw_at lw_m4 223 rfl) rfl
theorem q982 : (Jvm.Cond.methodLink "BellLotsModel" (152 : Nat) ({ cls := "BellLotsModel", name := "cuts", desc := "([I)I" } : Jvm.MethodName)) ∈ lw_all := lw_g (lw_at lw_m4 224 rfl) rfl
theorem q983 : (Jvm.Cond.privateMethod ({ cls := "BellLotsModel", name := "cuts", desc := "([I)I" } : Jvm.MethodName)) ∈ lw_tbl := lw_at lw_m4 225 rfl
theorem q984 : (Jvm.Cond.instanceMethod ({ cls := "BellLotsModel", name := "cuts", desc := "([I)I" } : Jvm.MethodName)) ∈ lw_all := lw_g (lw_at lw_m4 226 rfl) rfl
theorem q985 : (Jvm.Cond.code ({ cls := "BellLotsModel", name := "cuts", desc := "([I)I" } : Jvm.MethodName) prog_13_method_25_code (4 : Nat) (Option.some Jvm.ClassFile.FieldType.int)) ∈ lw_all := lw_g (lw_at lw_m4 227 rfl) rfl
theorem q987 : (Jvm.Cond.instanceMethod ({ cls := "BellLotsModel", name := "trades", desc := "(II)I" } : Jvm.MethodName)) ∈ lw_all := lw_g (lw_at lw_m4 229 rfl) rfl
theorem q988 : (Jvm.Cond.selects "BellLotsModel" ({ cls := "BellLotsModel", name := "trades", desc := "(II)I" } : Jvm.MethodName) ({ cls := "BellLotsModel", name := "trades", desc := "(II)I" } : Jvm.MethodName)) ∈ lw_all := lw_g (lw_at lw_m4 230 rfl) rfl
theorem q989 : (Jvm.Cond.code ({ cls := "BellLotsModel", name := "trades", desc := "(II)I" } : Jvm.MethodName) prog_13_method_28_code (4 : Nat) (Option.some Jvm.ClassFile.FieldType.int)) ∈ lw_all := lw_g (lw_at lw_m4 231 rfl) rfl
theorem q991 : (Jvm.Cond.instanceMethod ({ cls := "BellLotsModel", name := "widens", desc := "(II)I" } : Jvm.MethodName)) ∈ lw_all := lw_g (lw_at lw_m4 233 rfl) rfl
theorem q992 : (Jvm.Cond.selects "BellLotsModel" ({ cls := "BellLotsModel", name := "widens", desc := "(II)I" } : Jvm.MethodName) ({ cls := "BellLotsModel", name := "widens", desc := "(II)I" } : Jvm.MethodName)) ∈ lw_all := lw_g (lw_at lw_m4 234 rfl) rfl
theorem q993 : (Jvm.Cond.code ({ cls := "BellLotsModel", name := "widens", desc := "(II)I" } : Jvm.MethodName) prog_13_method_29_code (4 : Nat) (Option.some Jvm.ClassFile.FieldType.int)) ∈ lw_all := lw_g (lw_at lw_m4 235 rfl) rfl
theorem q995 : (Jvm.Cond.instanceMethod ({ cls := "BellLotsModel", name := "undo", desc := "()I" } : Jvm.MethodName)) ∈ lw_all := lw_g (lw_at lw_m4 237 rfl) rfl
theorem q996 : (Jvm.Cond.selects "BellLotsModel" ({ cls := "BellLotsModel", name := "undo", desc := "()I" } : Jvm.MethodName) ({ cls := "BellLotsModel", name := "undo", desc := "()I" } : Jvm.MethodName)) ∈ lw_all := lw_g (lw_at lw_m4 238 rfl) rfl
theorem q997 : (Jvm.Cond.code ({ cls := "BellLotsModel", name := "undo", desc := "()I" } : Jvm.MethodName) prog_13_method_30_code (2 : Nat) (Option.some Jvm.ClassFile.FieldType.int)) ∈ lw_all := lw_g (lw_at lw_m4 239 rfl) rfl
theorem q999 : (Jvm.Cond.instanceMethod ({ cls := "BellLotsModel", name := "inLots", desc := "(III)I" } : Jvm.MethodName)) ∈ lw_all := lw_g (lw_at lw_m5 1 rfl) rfl
theorem q1000 : (Jvm.Cond.selects "BellLotsModel" ({ cls := "BellLotsModel", name := "inLots", desc := "(III)I" } : Jvm.MethodName) ({ cls := "BellLotsModel", name := "inLots", desc := "(III)I" } : Jvm.MethodName)) ∈ lw_all := lw_g (lw_at lw_m5 2 rfl) rfl
theorem q1001 : (Jvm.Cond.code ({ cls := "BellLotsModel", name := "inLots", desc := "(III)I" } : Jvm.MethodName) prog_13_method_32_code (6 : Nat) (Option.some Jvm.ClassFile.FieldType.int)) ∈ lw_all := lw_g (lw_at lw_m5 3 rfl) rfl
theorem q1002 : (Jvm.Cond.methodLink "BellLotsModel" (162 : Nat) ({ cls := "BellLotsModel", name := "asNow", desc := "()V" } : Jvm.MethodName)) ∈ lw_all := lw_g (lw_at lw_m5 4 rfl) rfl
theorem q1003 : (Jvm.Cond.privateMethod ({ cls := "BellLotsModel", name := "asNow", desc := "()V" } : Jvm.MethodName)) ∈ lw_tbl := lw_at lw_m5 5 rfl
theorem q1004 : (Jvm.Cond.instanceMethod ({ cls := "BellLotsModel", name := "asNow", desc := "()V" } : Jvm.MethodName)) ∈ lw_all := lw_g (lw_at lw_m5 6 rfl) rfl
theorem q1005 : (Jvm.Cond.code ({ cls := "BellLotsModel", name := "asNow", desc := "()V" } : Jvm.MethodName) prog_13_method_31_code (2 : Nat) (Option.none : Option Jvm.ClassFile.FieldType)) ∈ lw_all := lw_g (lw_at lw_m5 7 rfl) rfl
theorem q1007 : (Jvm.Cond.instanceMethod ({ cls := "BellLotsModel", name := "cost", desc := "(I)I" } : Jvm.MethodName)) ∈ lw_all := lw_g (lw_at lw_m5 9 rfl) rfl
theorem q1008 : (Jvm.Cond.selects "BellLotsModel" ({ cls := "BellLotsModel", name := "cost", desc := "(I)I" } : Jvm.MethodName) ({ cls := "BellLotsModel", name := "cost", desc := "(I)I" } : Jvm.MethodName)) ∈ lw_all := lw_g (lw_at lw_m5 10 rfl) rfl
theorem q1009 : (Jvm.Cond.code ({ cls := "BellLotsModel", name := "cost", desc := "(I)I" } : Jvm.MethodName) prog_13_method_33_code (5 : Nat) (Option.some Jvm.ClassFile.FieldType.int)) ∈ lw_all := lw_g (lw_at lw_m5 11 rfl) rfl
theorem q1011 : (Jvm.Cond.instanceMethod ({ cls := "BellLotsModel", name := "home", desc := "(I)I" } : Jvm.MethodName)) ∈ lw_all := lw_g (lw_at lw_m5 13 rfl) rfl
theorem q1012 : (Jvm.Cond.selects "BellLotsModel" ({ cls := "BellLotsModel", name := "home", desc := "(I)I" } : Jvm.MethodName) ({ cls := "BellLotsModel", name := "home", desc := "(I)I" } : Jvm.MethodName)) ∈ lw_all := lw_g (lw_at lw_m5 14 rfl) rfl
theorem q1013 : (Jvm.Cond.code ({ cls := "BellLotsModel", name := "home", desc := "(I)I" } : Jvm.MethodName) prog_13_method_34_code (7 : Nat) (Option.some Jvm.ClassFile.FieldType.int)) ∈ lw_all := lw_g (lw_at lw_m5 15 rfl) rfl
theorem q1015 : (Jvm.Cond.instanceMethod ({ cls := "BellLotsModel", name := "hang", desc := "(I)I" } : Jvm.MethodName)) ∈ lw_all := lw_g (lw_at lw_m5 17 rfl) rfl
theorem q1016 : (Jvm.Cond.selects "BellLotsModel" ({ cls := "BellLotsModel", name := "hang", desc := "(I)I" } : Jvm.MethodName) ({ cls := "BellLotsModel", name := "hang", desc := "(I)I" } : Jvm.MethodName)) ∈ lw_all := lw_g (lw_at lw_m5 18 rfl) rfl
theorem q1017 : (Jvm.Cond.code ({ cls := "BellLotsModel", name := "hang", desc := "(I)I" } : Jvm.MethodName) prog_13_method_39_code (5 : Nat) (Option.some Jvm.ClassFile.FieldType.int)) ∈ lw_all := lw_g (lw_at lw_m5 19 rfl) rfl
theorem q1018 : (Jvm.Cond.methodLink "BellLotsModel" (165 : Nat) ({ cls := "BellLotsModel", name := "rows", desc := "()I" } : Jvm.MethodName)) ∈ lw_all := lw_g (lw_at lw_m5 20 rfl) rfl
theorem q1019 : (Jvm.Cond.privateMethod ({ cls := "BellLotsModel", name := "rows", desc := "()I" } : Jvm.MethodName)) ∈ lw_tbl := lw_at lw_m5 21 rfl
theorem q1020 : (Jvm.Cond.instanceMethod ({ cls := "BellLotsModel", name := "rows", desc := "()I" } : Jvm.MethodName)) ∈ lw_all := lw_g (lw_at lw_m5 22 rfl) rfl
theorem q1021 : (Jvm.Cond.code ({ cls := "BellLotsModel", name := "rows", desc := "()I" } : Jvm.MethodName) prog_13_method_36_code (3 : Nat) (Option.some Jvm.ClassFile.FieldType.int)) ∈ lw_all := lw_g (lw_at lw_m5 23 rfl) rfl
theorem q1022 : (Jvm.Cond.methodLink "BellLotsModel" (169 : Nat) ({ cls := "BellLotsModel", name := "isRow", desc := "(I)Z" } : Jvm.MethodName)) ∈ lw_all := lw_g (lw_at lw_m5 24 rfl) rfl
theorem q1023 : (Jvm.Cond.privateMethod ({ cls := "BellLotsModel", name := "isRow", desc := "(I)Z" } : Jvm.MethodName)) ∈ lw_tbl := lw_at lw_m5 25 rfl
theorem q1024 : (Jvm.Cond.instanceMethod ({ cls := "BellLotsModel", name := "isRow", desc := "(I)Z" } : Jvm.MethodName)) ∈ lw_all := lw_g (lw_at lw_m5 26 rfl) rfl
theorem q1025 : (Jvm.Cond.code ({ cls := "BellLotsModel", name := "isRow", desc := "(I)Z" } : Jvm.MethodName) prog_13_method_35_code (6 : Nat) (Option.some Jvm.ClassFile.FieldType.boolean)) ∈ lw_all := lw_g (lw_at lw_m5 27 rfl) rfl
theorem q1026 : (Jvm.Cond.methodLink "BellLotsModel" (172 : Nat) ({ cls := "BellLotsModel", name := "isBorne", desc := "()Z" } : Jvm.MethodName)) ∈ lw_all := lw_g (lw_at lw_m5 28 rfl) rfl
theorem q1027 : (Jvm.Cond.privateMethod ({ cls := "BellLotsModel", name := "isBorne", desc := "()Z" } : Jvm.MethodName)) ∈ lw_tbl := lw_at lw_m5 29 rfl
theorem q1028 : (Jvm.Cond.instanceMethod ({ cls := "BellLotsModel", name := "isBorne", desc := "()Z" } : Jvm.MethodName)) ∈ lw_all := lw_g (lw_at lw_m5 30 rfl) rfl
theorem q1029 : (Jvm.Cond.code ({ cls := "BellLotsModel", name := "isBorne", desc := "()Z" } : Jvm.MethodName) prog_13_method_37_code (3 : Nat) (Option.some Jvm.ClassFile.FieldType.boolean)) ∈ lw_all := lw_g (lw_at lw_m5 31 rfl) rfl
theorem q1030 : (Jvm.Cond.methodLink "BellLotsModel" (175 : Nat) ({ cls := "BellLotsModel", name := "costOfRow", desc := "()I" } : Jvm.MethodName)) ∈ lw_all := lw_g (lw_at lw_m5 32 rfl) rfl
theorem q1031 : (Jvm.Cond.privateMethod ({ cls := "BellLotsModel", name := "costOfRow", desc := "()I" } : Jvm.MethodName)) ∈ lw_tbl := lw_at lw_m5 33 rfl
theorem q1032 : (Jvm.Cond.instanceMethod ({ cls := "BellLotsModel", name := "costOfRow", desc := "()I" } : Jvm.MethodName)) ∈ lw_all := lw_g (lw_at lw_m5 34 rfl) rfl
theorem q1033 : (Jvm.Cond.code ({ cls := "BellLotsModel", name := "costOfRow", desc := "()I" } : Jvm.MethodName) prog_13_method_38_code (4 : Nat) (Option.some Jvm.ClassFile.FieldType.int)) ∈ lw_all := lw_g (lw_at lw_m5 35 rfl) rfl
theorem q1035 : (Jvm.Cond.instanceMethod ({ cls := "BellLotsModel", name := "round", desc := "(I)I" } : Jvm.MethodName)) ∈ lw_all := lw_g (lw_at lw_m5 37 rfl) rfl
theorem q1036 : (Jvm.Cond.selects "BellLotsModel" ({ cls := "BellLotsModel", name := "round", desc := "(I)I" } : Jvm.MethodName) ({ cls := "BellLotsModel", name := "round", desc := "(I)I" } : Jvm.MethodName)) ∈ lw_all := lw_g (lw_at lw_m5 38 rfl) rfl
theorem q1037 : (Jvm.Cond.code ({ cls := "BellLotsModel", name := "round", desc := "(I)I" } : Jvm.MethodName) prog_13_method_40_code (5 : Nat) (Option.some Jvm.ClassFile.FieldType.int)) ∈ lw_all := lw_g (lw_at lw_m5 39 rfl) rfl
theorem q1039 : (Jvm.Cond.instanceMethod ({ cls := "BellLotsModel", name := "crossed", desc := "()I" } : Jvm.MethodName)) ∈ lw_all := lw_g (lw_at lw_m5 41 rfl) rfl
theorem q1040 : (Jvm.Cond.selects "BellLotsModel" ({ cls := "BellLotsModel", name := "crossed", desc := "()I" } : Jvm.MethodName) ({ cls := "BellLotsModel", name := "crossed", desc := "()I" } : Jvm.MethodName)) ∈ lw_all := lw_g (lw_at lw_m5 42 rfl) rfl
theorem q1041 : (Jvm.Cond.code ({ cls := "BellLotsModel", name := "crossed", desc := "()I" } : Jvm.MethodName) prog_13_method_41_code (5 : Nat) (Option.some Jvm.ClassFile.FieldType.int)) ∈ lw_all := lw_g (lw_at lw_m5 43 rfl) rfl
theorem q1043 : (Jvm.Cond.instanceMethod ({ cls := "BellLotsModel", name := "oaths", desc := "(I)I" } : Jvm.MethodName)) ∈ lw_all := lw_g (lw_at lw_m5 45 rfl) rfl
theorem q1044 : (Jvm.Cond.selects "BellLotsModel" ({ cls := "BellLotsModel", name := "oaths", desc := "(I)I" } : Jvm.MethodName) ({ cls := "BellLotsModel", name := "oaths", desc := "(I)I" } : Jvm.MethodName)) ∈ lw_all := lw_g (lw_at lw_m5 46 rfl) rfl
theorem q1045 : (Jvm.Cond.code ({ cls := "BellLotsModel", name := "oaths", desc := "(I)I" } : Jvm.MethodName) prog_13_method_42_code (4 : Nat) (Option.some Jvm.ClassFile.FieldType.int)) ∈ lw_all := lw_g (lw_at lw_m5 47 rfl) rfl
theorem q1047 : (Jvm.Cond.instanceMethod ({ cls := "BellLotsModel", name := "strokes", desc := "(II)I" } : Jvm.MethodName)) ∈ lw_all := lw_g (lw_at lw_m5 49 rfl) rfl
theorem q1048 : (Jvm.Cond.selects "BellLotsModel" ({ cls := "BellLotsModel", name := "strokes", desc := "(II)I" } : Jvm.MethodName) ({ cls := "BellLotsModel", name := "strokes", desc := "(II)I" } : Jvm.MethodName)) ∈ lw_all := lw_g (lw_at lw_m5 50 rfl) rfl
theorem q1049 : (Jvm.Cond.code ({ cls := "BellLotsModel", name := "strokes", desc := "(II)I" } : Jvm.MethodName) prog_13_method_43_code (3 : Nat) (Option.some Jvm.ClassFile.FieldType.int)) ∈ lw_all := lw_g (lw_at lw_m5 51 rfl) rfl
theorem q1051 : (Jvm.Cond.instanceMethod ({ cls := "BellLotsModel", name := "found", desc := "(II)I" } : Jvm.MethodName)) ∈ lw_all := lw_g (lw_at lw_m5 53 rfl) rfl
theorem q1052 : (Jvm.Cond.selects "BellLotsModel" ({ cls := "BellLotsModel", name := "found", desc := "(II)I" } : Jvm.MethodName) ({ cls := "BellLotsModel", name := "found", desc := "(II)I" } : Jvm.MethodName)) ∈ lw_all := lw_g (lw_at lw_m5 54 rfl) rfl
theorem q1053 : (Jvm.Cond.code ({ cls := "BellLotsModel", name := "found", desc := "(II)I" } : Jvm.MethodName) prog_13_method_44_code (3 : Nat) (Option.some Jvm.ClassFile.FieldType.int)) ∈ lw_all := lw_g (lw_at lw_m5 55 rfl) rfl
theorem q1055 : (Jvm.Cond.instanceMethod ({ cls := "BellLotsModel", name := "forget", desc := "()I" } : Jvm.MethodName)) ∈ lw_all := lw_g (lw_at lw_m5 57 rfl) rfl
theorem q1056 : (Jvm.Cond.selects "BellLotsModel" ({ cls := "BellLotsModel", name := "forget", desc := "()I" } : Jvm.MethodName) ({ cls := "BellLotsModel", name := "forget", desc := "()I" } : Jvm.MethodName)) ∈ lw_all := lw_g (lw_at lw_m5 58 rfl) rfl
theorem q1057 : (Jvm.Cond.code ({ cls := "BellLotsModel", name := "forget", desc := "()I" } : Jvm.MethodName) prog_13_method_45_code (2 : Nat) (Option.some Jvm.ClassFile.FieldType.int)) ∈ lw_all := lw_g (lw_at lw_m5 59 rfl) rfl
theorem q1059 : (Jvm.Cond.instanceMethod ({ cls := "BellLotsModel", name := "which", desc := "(I)I" } : Jvm.MethodName)) ∈ lw_all := lw_g (lw_at lw_m5 61 rfl) rfl
theorem q1060 : (Jvm.Cond.selects "BellLotsModel" ({ cls := "BellLotsModel", name := "which", desc := "(I)I" } : Jvm.MethodName) ({ cls := "BellLotsModel", name := "which", desc := "(I)I" } : Jvm.MethodName)) ∈ lw_all := lw_g (lw_at lw_m5 62 rfl) rfl
theorem q1061 : (Jvm.Cond.code ({ cls := "BellLotsModel", name := "which", desc := "(I)I" } : Jvm.MethodName) prog_13_method_46_code (7 : Nat) (Option.some Jvm.ClassFile.FieldType.int)) ∈ lw_all := lw_g (lw_at lw_m5 63 rfl) rfl
theorem q1063 : (Jvm.Cond.instanceMethod ({ cls := "BellLotsModel", name := "odds", desc := "(I)I" } : Jvm.MethodName)) ∈ lw_all := lw_g (lw_at lw_m5 65 rfl) rfl
theorem q1064 : (Jvm.Cond.selects "BellLotsModel" ({ cls := "BellLotsModel", name := "odds", desc := "(I)I" } : Jvm.MethodName) ({ cls := "BellLotsModel", name := "odds", desc := "(I)I" } : Jvm.MethodName)) ∈ lw_all := lw_g (lw_at lw_m5 66 rfl) rfl
theorem q1065 : (Jvm.Cond.code ({ cls := "BellLotsModel", name := "odds", desc := "(I)I" } : Jvm.MethodName) prog_13_method_48_code (5 : Nat) (Option.some Jvm.ClassFile.FieldType.int)) ∈ lw_all := lw_g (lw_at lw_m5 67 rfl) rfl
theorem q1066 : (Jvm.Cond.methodLink "BellLotsModel" (178 : Nat) ({ cls := "BellLotsModel", name := "gcd", desc := "(II)I" } : Jvm.MethodName)) ∈ lw_all := lw_g (lw_at lw_m5 68 rfl) rfl
theorem q1067 : (Jvm.Cond.static ({ cls := "BellLotsModel", name := "gcd", desc := "(II)I" } : Jvm.MethodName)) ∈ lw_all := lw_g (lw_at lw_m5 69 rfl) rfl
theorem q1068 : (Jvm.Cond.code ({ cls := "BellLotsModel", name := "gcd", desc := "(II)I" } : Jvm.MethodName) prog_13_method_47_code (5 : Nat) (Option.some Jvm.ClassFile.FieldType.int)) ∈ lw_all := lw_g (lw_at lw_m5 70 rfl) rfl
theorem q1070 : (Jvm.Cond.instanceMethod ({ cls := "BellLotsModel", name := "rate", desc := "(II)I" } : Jvm.MethodName)) ∈ lw_all := lw_g (lw_at lw_m5 72 rfl) rfl
theorem q1071 : (Jvm.Cond.selects "BellLotsModel" ({ cls := "BellLotsModel", name := "rate", desc := "(II)I" } : Jvm.MethodName) ({ cls := "BellLotsModel", name := "rate", desc := "(II)I" } : Jvm.MethodName)) ∈ lw_all := lw_g (lw_at lw_m5 73 rfl) rfl
theorem q1072 : (Jvm.Cond.code ({ cls := "BellLotsModel", name := "rate", desc := "(II)I" } : Jvm.MethodName) prog_13_method_49_code (5 : Nat) (Option.some Jvm.ClassFile.FieldType.int)) ∈ lw_all := lw_g (lw_at lw_m5 74 rfl) rfl
theorem q1073 : (Jvm.Cond.constant "BellLotsModel" (181 : Nat) (-1000000 : Int32)) ∈ lw_all := lw_g (lw_at lw_m5 75 rfl) rfl
theorem q1074 : (Jvm.Cond.constantLong "BellLotsModel" (186 : Nat) (11 : Int64)) ∈ lw_all := lw_g (lw_at lw_m5 76 rfl) rfl
theorem q1075 : (Jvm.Cond.constantLong "BellLotsModel" (188 : Nat) (101 : Int64)) ∈ lw_all := lw_g (lw_at lw_m5 77 rfl) rfl
theorem q1076 : (Jvm.Cond.constantLong "BellLotsModel" (190 : Nat) (1011 : Int64)) ∈ lw_all := lw_g (lw_at lw_m5 78 rfl) rfl
theorem q1077 : (Jvm.Cond.constantLong "BellLotsModel" (192 : Nat) (10101 : Int64)) ∈ lw_all := lw_g (lw_at lw_m5 79 rfl) rfl
theorem q1078 : (Jvm.Cond.constantLong "BellLotsModel" (194 : Nat) (100001 : Int64)) ∈ lw_all := lw_g (lw_at lw_m5 80 rfl) rfl
theorem q1080 : (Jvm.Cond.instanceMethod ({ cls := "BellLotsModel", name := "keep", desc := "(I)I" } : Jvm.MethodName)) ∈ lw_all := lw_g (lw_at lw_m5 82 rfl) rfl
theorem q1081 : (Jvm.Cond.selects "BellLotsModel" ({ cls := "BellLotsModel", name := "keep", desc := "(I)I" } : Jvm.MethodName) ({ cls := "BellLotsModel", name := "keep", desc := "(I)I" } : Jvm.MethodName)) ∈ lw_all := lw_g (lw_at lw_m5 83 rfl) rfl
theorem q1082 : (Jvm.Cond.code ({ cls := "BellLotsModel", name := "keep", desc := "(I)I" } : Jvm.MethodName) prog_13_method_50_code (3 : Nat) (Option.some Jvm.ClassFile.FieldType.int)) ∈ lw_all := lw_g (lw_at lw_m5 84 rfl) rfl
theorem q1084 : (Jvm.Cond.instanceMethod ({ cls := "BellLotsModel", name := "back", desc := "(I)I" } : Jvm.MethodName)) ∈ lw_all := lw_g (lw_at lw_m5 86 rfl) rfl
theorem q1085 : (Jvm.Cond.selects "BellLotsModel" ({ cls := "BellLotsModel", name := "back", desc := "(I)I" } : Jvm.MethodName) ({ cls := "BellLotsModel", name := "back", desc := "(I)I" } : Jvm.MethodName)) ∈ lw_all := lw_g (lw_at lw_m5 87 rfl) rfl
theorem q1086 : (Jvm.Cond.code ({ cls := "BellLotsModel", name := "back", desc := "(I)I" } : Jvm.MethodName) prog_13_method_51_code (3 : Nat) (Option.some Jvm.ClassFile.FieldType.int)) ∈ lw_all := lw_g (lw_at lw_m5 88 rfl) rfl
theorem q1088 : (Jvm.Cond.instanceMethod ({ cls := "BellLotsModel", name := "count", desc := "(I)I" } : Jvm.MethodName)) ∈ lw_all := lw_g (lw_at lw_m5 90 rfl) rfl
theorem q1089 : (Jvm.Cond.selects "BellLotsModel" ({ cls := "BellLotsModel", name := "count", desc := "(I)I" } : Jvm.MethodName) ({ cls := "BellLotsModel", name := "count", desc := "(I)I" } : Jvm.MethodName)) ∈ lw_all := lw_g (lw_at lw_m5 91 rfl) rfl
theorem q1090 : (Jvm.Cond.code ({ cls := "BellLotsModel", name := "count", desc := "(I)I" } : Jvm.MethodName) prog_13_method_53_code (2 : Nat) (Option.some Jvm.ClassFile.FieldType.int)) ∈ lw_all := lw_g (lw_at lw_m5 92 rfl) rfl
theorem q1091 : (Jvm.Cond.methodLink "BellLotsModel" (196 : Nat) ({ cls := "BellLotsModel", name := "roads", desc := "()I" } : Jvm.MethodName)) ∈ lw_all := lw_g (lw_at lw_m5 93 rfl) rfl
theorem q1092 : (Jvm.Cond.privateMethod ({ cls := "BellLotsModel", name := "roads", desc := "()I" } : Jvm.MethodName)) ∈ lw_tbl := lw_at lw_m5 94 rfl
theorem q1093 : (Jvm.Cond.instanceMethod ({ cls := "BellLotsModel", name := "roads", desc := "()I" } : Jvm.MethodName)) ∈ lw_all := lw_g (lw_at lw_m5 95 rfl) rfl
theorem q1094 : (Jvm.Cond.code ({ cls := "BellLotsModel", name := "roads", desc := "()I" } : Jvm.MethodName) prog_13_method_52_code (3 : Nat) (Option.some Jvm.ClassFile.FieldType.int)) ∈ lw_all := lw_g (lw_at lw_m5 96 rfl) rfl
theorem q1096 : (Jvm.Cond.instanceMethod ({ cls := "BellLotsModel", name := "trace", desc := "()J" } : Jvm.MethodName)) ∈ lw_all := lw_g (lw_at lw_m5 98 rfl) rfl
theorem q1097 : (Jvm.Cond.selects "BellLotsModel" ({ cls := "BellLotsModel", name := "trace", desc := "()J" } : Jvm.MethodName) ({ cls := "BellLotsModel", name := "trace", desc := "()J" } : Jvm.MethodName)) ∈ lw_all := lw_g (lw_at lw_m5 99 rfl) rfl
theorem q1098 : (Jvm.Cond.code ({ cls := "BellLotsModel", name := "trace", desc := "()J" } : Jvm.MethodName) prog_13_method_54_code (1 : Nat) (Option.some Jvm.ClassFile.FieldType.long)) ∈ lw_all := lw_g (lw_at lw_m5 100 rfl) rfl
theorem in_X9 : ∀ w ∈ wsX90, w ∈ lw_all := lw_in wsX90 [824, 826, 828, 830, 832, 834, 836, 838, 840, 842, 844, 846, 848, 850, 852, 854, 856, 858, 860, 862, 864, 866, 868, 870, 872, 874, 876, 878, 880] (by decide +kernel) (by decide +kernel)
