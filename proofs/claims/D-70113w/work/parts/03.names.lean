/-! BellLots$Book -/
set_option maxRecDepth 100000
def RX1 : String := "BellLots$Book"
def TX1 : u_T := fun k => match k with
  | 0 => ("BellLots$Book", "tower", "[I", true)
  | 1 => ("BellLots$Book", "weight", "[I", true)
  | 2 => ("BellLots$Book", "note", "[I", true)
  | 3 => ("BellLots$Book", "toll", "[[I", true)
  | 4 => ("BellLots$Book", "far", "[[I", true)
  | 5 => ("BellLots$Book", "oathBell", "[I", true)
  | 6 => ("BellLots$Book", "oathTown", "[I", true)
  | 7 => ("BellLots$Book", "oathTerm", "[I", true)
  | 8 => ("BellLots$Book", "towns", "I", false)
  | 9 => ("BellLots$Book", "oaths", "I", false)
  | _ => ("BellLots$Book", "items", "I", false)
def tyX1 : Nat → FieldType := fun k => match k with
  | 0 => .array .int
  | 1 => .array .int
  | 2 => .array .int
  | 3 => .array (.array .int)
  | 4 => .array (.array .int)
  | 5 => .array .int
  | 6 => .array .int
  | 7 => .array .int
  | 8 => .int
  | 9 => .int
  | _ => .int
abbrev wsX10 : List Cond := u_ws RX1 TX1 11
theorem nmX1 : ∀ a, a < 11 → ∀ b, b < 11 → a ≠ b → (TX1 a).2.1 ≠ (TX1 b).2.1 := by decide +kernel
theorem tyX1_ok : ∀ k, k < 11 → parseFieldDescriptor (TX1 k).2.2.1 = some (tyX1 k) := by decide +kernel
abbrev cX1_init : ByteArray := prog_3_method_1_code
def yX1_init : MethodName := ⟨RX1, "<init>", "()V"⟩
def dkwX1_init_3 : List UInt8 := [16, 6, 188, 10, 181, 0, 35, 177]
abbrev dktX1_init_3 : List UInt8 := dkwX1_init_3 ++ []
def dkwX1_init_2 : List UInt8 := [197, 0, 21, 2, 181, 0, 26, 42, 16, 6, 188, 10, 181, 0, 29, 42, 16, 6, 188, 10, 181, 0, 32, 42]
abbrev dktX1_init_2 : List UInt8 := dkwX1_init_2 ++ dktX1_init_3
def dkwX1_init_1 : List UInt8 := [188, 10, 181, 0, 18, 42, 16, 6, 16, 6, 197, 0, 21, 2, 181, 0, 23, 42, 16, 6, 16, 6]
abbrev dktX1_init_1 : List UInt8 := dkwX1_init_1 ++ dktX1_init_2
def dkwX1_init_0 : List UInt8 := [42, 183, 0, 3, 42, 16, 6, 188, 10, 181, 0, 9, 42, 16, 6, 188, 10, 181, 0, 15, 42, 16, 6]
abbrev dktX1_init_0 : List UInt8 := dkwX1_init_0 ++ dktX1_init_1
theorem dksX1_init_0 : cX1_init.data.toList.drop 0 = dktX1_init_0 := by decide +kernel
theorem dksX1_init_1 : cX1_init.data.toList.drop 23 = dktX1_init_1 := dk_seg dksX1_init_0 23 rfl rfl
theorem dksX1_init_2 : cX1_init.data.toList.drop 45 = dktX1_init_2 := dk_seg dksX1_init_1 22 rfl rfl
theorem dksX1_init_3 : cX1_init.data.toList.drop 69 = dktX1_init_3 := dk_seg dksX1_init_2 24 rfl rfl
theorem dX1_init_0 : decode cX1_init 0 = .ok (.aload_n 0, 1) := dk_42 (dk_at dksX1_init_0 0 rfl rfl)
theorem dX1_init_1 : decode cX1_init 1 = .ok (.invokespecial 3, 3) := dk_183 0 3 (dk_at dksX1_init_0 1 rfl rfl)
theorem dX1_init_4 : decode cX1_init 4 = .ok (.aload_n 0, 1) := dk_42 (dk_at dksX1_init_0 4 rfl rfl)
theorem dX1_init_5 : decode cX1_init 5 = .ok (.bipush 6, 2) := dk_16 6 (dk_at dksX1_init_0 5 rfl rfl)
theorem dX1_init_7 : decode cX1_init 7 = .ok (.newarray .int, 2) := dk_188_10 (dk_at dksX1_init_0 7 rfl rfl)
theorem dX1_init_9 : decode cX1_init 9 = .ok (.putfield 9, 3) := dk_181 0 9 (dk_at dksX1_init_0 9 rfl rfl)
theorem dX1_init_12 : decode cX1_init 12 = .ok (.aload_n 0, 1) := dk_42 (dk_at dksX1_init_0 12 rfl rfl)
theorem dX1_init_13 : decode cX1_init 13 = .ok (.bipush 6, 2) := dk_16 6 (dk_at dksX1_init_0 13 rfl rfl)
theorem dX1_init_15 : decode cX1_init 15 = .ok (.newarray .int, 2) := dk_188_10 (dk_at dksX1_init_0 15 rfl rfl)
theorem dX1_init_17 : decode cX1_init 17 = .ok (.putfield 15, 3) := dk_181 0 15 (dk_at dksX1_init_0 17 rfl rfl)
theorem dX1_init_20 : decode cX1_init 20 = .ok (.aload_n 0, 1) := dk_42 (dk_at dksX1_init_0 20 rfl rfl)
theorem dX1_init_21 : decode cX1_init 21 = .ok (.bipush 6, 2) := dk_16 6 (dk_at dksX1_init_0 21 rfl rfl)
theorem dX1_init_23 : decode cX1_init 23 = .ok (.newarray .int, 2) := dk_188_10 (dk_at dksX1_init_1 0 rfl rfl)
theorem dX1_init_25 : decode cX1_init 25 = .ok (.putfield 18, 3) := dk_181 0 18 (dk_at dksX1_init_1 2 rfl rfl)
theorem dX1_init_28 : decode cX1_init 28 = .ok (.aload_n 0, 1) := dk_42 (dk_at dksX1_init_1 5 rfl rfl)
theorem dX1_init_29 : decode cX1_init 29 = .ok (.bipush 6, 2) := dk_16 6 (dk_at dksX1_init_1 6 rfl rfl)
theorem dX1_init_31 : decode cX1_init 31 = .ok (.bipush 6, 2) := dk_16 6 (dk_at dksX1_init_1 8 rfl rfl)
theorem dX1_init_33 : decode cX1_init 33 = .ok (.multianewarray 21 2, 4) := by decide +kernel
theorem dX1_init_37 : decode cX1_init 37 = .ok (.putfield 23, 3) := dk_181 0 23 (dk_at dksX1_init_1 14 rfl rfl)
theorem dX1_init_40 : decode cX1_init 40 = .ok (.aload_n 0, 1) := dk_42 (dk_at dksX1_init_1 17 rfl rfl)
theorem dX1_init_41 : decode cX1_init 41 = .ok (.bipush 6, 2) := dk_16 6 (dk_at dksX1_init_1 18 rfl rfl)
theorem dX1_init_43 : decode cX1_init 43 = .ok (.bipush 6, 2) := dk_16 6 (dk_at dksX1_init_1 20 rfl rfl)
theorem dX1_init_45 : decode cX1_init 45 = .ok (.multianewarray 21 2, 4) := by decide +kernel
theorem dX1_init_49 : decode cX1_init 49 = .ok (.putfield 26, 3) := dk_181 0 26 (dk_at dksX1_init_2 4 rfl rfl)
theorem dX1_init_52 : decode cX1_init 52 = .ok (.aload_n 0, 1) := dk_42 (dk_at dksX1_init_2 7 rfl rfl)
theorem dX1_init_53 : decode cX1_init 53 = .ok (.bipush 6, 2) := dk_16 6 (dk_at dksX1_init_2 8 rfl rfl)
theorem dX1_init_55 : decode cX1_init 55 = .ok (.newarray .int, 2) := dk_188_10 (dk_at dksX1_init_2 10 rfl rfl)
theorem dX1_init_57 : decode cX1_init 57 = .ok (.putfield 29, 3) := dk_181 0 29 (dk_at dksX1_init_2 12 rfl rfl)
theorem dX1_init_60 : decode cX1_init 60 = .ok (.aload_n 0, 1) := dk_42 (dk_at dksX1_init_2 15 rfl rfl)
theorem dX1_init_61 : decode cX1_init 61 = .ok (.bipush 6, 2) := dk_16 6 (dk_at dksX1_init_2 16 rfl rfl)
theorem dX1_init_63 : decode cX1_init 63 = .ok (.newarray .int, 2) := dk_188_10 (dk_at dksX1_init_2 18 rfl rfl)
theorem dX1_init_65 : decode cX1_init 65 = .ok (.putfield 32, 3) := dk_181 0 32 (dk_at dksX1_init_2 20 rfl rfl)
theorem dX1_init_68 : decode cX1_init 68 = .ok (.aload_n 0, 1) := dk_42 (dk_at dksX1_init_2 23 rfl rfl)
theorem dX1_init_69 : decode cX1_init 69 = .ok (.bipush 6, 2) := dk_16 6 (dk_at dksX1_init_3 0 rfl rfl)
theorem dX1_init_71 : decode cX1_init 71 = .ok (.newarray .int, 2) := dk_188_10 (dk_at dksX1_init_3 2 rfl rfl)
theorem dX1_init_73 : decode cX1_init 73 = .ok (.putfield 35, 3) := dk_181 0 35 (dk_at dksX1_init_3 4 rfl rfl)
theorem dX1_init_76 : decode cX1_init 76 = .ok (.return_, 1) := dk_177 (dk_at dksX1_init_3 7 rfl rfl)
abbrev cX1_measure : ByteArray := prog_3_method_2_code
def yX1_measure : MethodName := ⟨RX1, "measure", "()V"⟩
def dkwX1_measure_6 : List UInt8 := [132, 1, 1, 167, 255, 183, 177]
abbrev dktX1_measure_6 : List UInt8 := dkwX1_measure_6 ++ []
def dkwX1_measure_5 : List UInt8 := [180, 0, 26, 27, 50, 29, 46, 96, 184, 0, 39, 79, 132, 3, 1, 167, 255, 211, 132, 2, 1, 167, 255, 197]
abbrev dktX1_measure_5 : List UInt8 := dkwX1_measure_5 ++ dktX1_measure_6
def dkwX1_measure_4 : List UInt8 := [180, 0, 26, 28, 50, 29, 42, 180, 0, 26, 28, 50, 29, 46, 42, 180, 0, 26, 28, 50, 27, 46, 42]
abbrev dktX1_measure_4 : List UInt8 := dkwX1_measure_4 ++ dktX1_measure_5
def dkwX1_measure_3 : List UInt8 := [16, 6, 162, 0, 73, 3, 61, 28, 16, 6, 162, 0, 59, 3, 62, 29, 16, 6, 162, 0, 45, 42]
abbrev dktX1_measure_3 : List UInt8 := dkwX1_measure_3 ++ dktX1_measure_4
def dkwX1_measure_2 : List UInt8 := [50, 28, 46, 167, 0, 5, 18, 38, 79, 132, 2, 1, 167, 255, 206, 132, 1, 1, 167, 255, 192, 3, 60, 27]
abbrev dktX1_measure_2 : List UInt8 := dkwX1_measure_2 ++ dktX1_measure_3
def dkwX1_measure_1 : List UInt8 := [28, 160, 0, 7, 3, 167, 0, 27, 42, 180, 0, 23, 27, 50, 28, 46, 158, 0, 14, 42, 180, 0, 23, 27]
abbrev dktX1_measure_1 : List UInt8 := dkwX1_measure_1 ++ dktX1_measure_2
def dkwX1_measure_0 : List UInt8 := [3, 60, 27, 16, 6, 162, 0, 64, 3, 61, 28, 16, 6, 162, 0, 50, 42, 180, 0, 26, 27, 50, 28, 27]
abbrev dktX1_measure_0 : List UInt8 := dkwX1_measure_0 ++ dktX1_measure_1
theorem dksX1_measure_0 : cX1_measure.data.toList.drop 0 = dktX1_measure_0 := by decide +kernel
theorem dksX1_measure_1 : cX1_measure.data.toList.drop 24 = dktX1_measure_1 := dk_seg dksX1_measure_0 24 rfl rfl
theorem dksX1_measure_2 : cX1_measure.data.toList.drop 48 = dktX1_measure_2 := dk_seg dksX1_measure_1 24 rfl rfl
theorem dksX1_measure_3 : cX1_measure.data.toList.drop 72 = dktX1_measure_3 := dk_seg dksX1_measure_2 24 rfl rfl
theorem dksX1_measure_4 : cX1_measure.data.toList.drop 94 = dktX1_measure_4 := dk_seg dksX1_measure_3 22 rfl rfl
theorem dksX1_measure_5 : cX1_measure.data.toList.drop 117 = dktX1_measure_5 := dk_seg dksX1_measure_4 23 rfl rfl
theorem dksX1_measure_6 : cX1_measure.data.toList.drop 141 = dktX1_measure_6 := dk_seg dksX1_measure_5 24 rfl rfl
theorem dX1_measure_0 : decode cX1_measure 0 = .ok (.iconst 0, 1) := dk_3 (dk_at dksX1_measure_0 0 rfl rfl)
theorem dX1_measure_1 : decode cX1_measure 1 = .ok (.istore_n 1, 1) := dk_60 (dk_at dksX1_measure_0 1 rfl rfl)
theorem dX1_measure_2 : decode cX1_measure 2 = .ok (.iload_n 1, 1) := dk_27 (dk_at dksX1_measure_0 2 rfl rfl)
theorem dX1_measure_3 : decode cX1_measure 3 = .ok (.bipush 6, 2) := dk_16 6 (dk_at dksX1_measure_0 3 rfl rfl)
theorem dX1_measure_5 : decode cX1_measure 5 = .ok (.if_icmp .ge 64, 3) := dk_162 0 64 (dk_at dksX1_measure_0 5 rfl rfl)
theorem dX1_measure_8 : decode cX1_measure 8 = .ok (.iconst 0, 1) := dk_3 (dk_at dksX1_measure_0 8 rfl rfl)
theorem dX1_measure_9 : decode cX1_measure 9 = .ok (.istore_n 2, 1) := dk_61 (dk_at dksX1_measure_0 9 rfl rfl)
theorem dX1_measure_10 : decode cX1_measure 10 = .ok (.iload_n 2, 1) := dk_28 (dk_at dksX1_measure_0 10 rfl rfl)
theorem dX1_measure_11 : decode cX1_measure 11 = .ok (.bipush 6, 2) := dk_16 6 (dk_at dksX1_measure_0 11 rfl rfl)
theorem dX1_measure_13 : decode cX1_measure 13 = .ok (.if_icmp .ge 50, 3) := dk_162 0 50 (dk_at dksX1_measure_0 13 rfl rfl)
theorem dX1_measure_16 : decode cX1_measure 16 = .ok (.aload_n 0, 1) := dk_42 (dk_at dksX1_measure_0 16 rfl rfl)
theorem dX1_measure_17 : decode cX1_measure 17 = .ok (.getfield 26, 3) := dk_180 0 26 (dk_at dksX1_measure_0 17 rfl rfl)
theorem dX1_measure_20 : decode cX1_measure 20 = .ok (.iload_n 1, 1) := dk_27 (dk_at dksX1_measure_0 20 rfl rfl)
theorem dX1_measure_21 : decode cX1_measure 21 = .ok (.aaload, 1) := dk_50 (dk_at dksX1_measure_0 21 rfl rfl)
theorem dX1_measure_22 : decode cX1_measure 22 = .ok (.iload_n 2, 1) := dk_28 (dk_at dksX1_measure_0 22 rfl rfl)
theorem dX1_measure_23 : decode cX1_measure 23 = .ok (.iload_n 1, 1) := dk_27 (dk_at dksX1_measure_0 23 rfl rfl)
theorem dX1_measure_24 : decode cX1_measure 24 = .ok (.iload_n 2, 1) := dk_28 (dk_at dksX1_measure_1 0 rfl rfl)
theorem dX1_measure_25 : decode cX1_measure 25 = .ok (.if_icmp .ne 7, 3) := dk_160 0 7 (dk_at dksX1_measure_1 1 rfl rfl)
theorem dX1_measure_28 : decode cX1_measure 28 = .ok (.iconst 0, 1) := dk_3 (dk_at dksX1_measure_1 4 rfl rfl)
theorem dX1_measure_29 : decode cX1_measure 29 = .ok (.goto 27, 3) := dk_167 0 27 (dk_at dksX1_measure_1 5 rfl rfl)
theorem dX1_measure_32 : decode cX1_measure 32 = .ok (.aload_n 0, 1) := dk_42 (dk_at dksX1_measure_1 8 rfl rfl)
theorem dX1_measure_33 : decode cX1_measure 33 = .ok (.getfield 23, 3) := dk_180 0 23 (dk_at dksX1_measure_1 9 rfl rfl)
theorem dX1_measure_36 : decode cX1_measure 36 = .ok (.iload_n 1, 1) := dk_27 (dk_at dksX1_measure_1 12 rfl rfl)
theorem dX1_measure_37 : decode cX1_measure 37 = .ok (.aaload, 1) := dk_50 (dk_at dksX1_measure_1 13 rfl rfl)
theorem dX1_measure_38 : decode cX1_measure 38 = .ok (.iload_n 2, 1) := dk_28 (dk_at dksX1_measure_1 14 rfl rfl)
theorem dX1_measure_39 : decode cX1_measure 39 = .ok (.iaload, 1) := dk_46 (dk_at dksX1_measure_1 15 rfl rfl)
theorem dX1_measure_40 : decode cX1_measure 40 = .ok (.ifCond .le 14, 3) := dk_158 0 14 (dk_at dksX1_measure_1 16 rfl rfl)
theorem dX1_measure_43 : decode cX1_measure 43 = .ok (.aload_n 0, 1) := dk_42 (dk_at dksX1_measure_1 19 rfl rfl)
theorem dX1_measure_44 : decode cX1_measure 44 = .ok (.getfield 23, 3) := dk_180 0 23 (dk_at dksX1_measure_1 20 rfl rfl)
theorem dX1_measure_47 : decode cX1_measure 47 = .ok (.iload_n 1, 1) := dk_27 (dk_at dksX1_measure_1 23 rfl rfl)
theorem dX1_measure_48 : decode cX1_measure 48 = .ok (.aaload, 1) := dk_50 (dk_at dksX1_measure_2 0 rfl rfl)
theorem dX1_measure_49 : decode cX1_measure 49 = .ok (.iload_n 2, 1) := dk_28 (dk_at dksX1_measure_2 1 rfl rfl)
theorem dX1_measure_50 : decode cX1_measure 50 = .ok (.iaload, 1) := dk_46 (dk_at dksX1_measure_2 2 rfl rfl)
theorem dX1_measure_51 : decode cX1_measure 51 = .ok (.goto 5, 3) := dk_167 0 5 (dk_at dksX1_measure_2 3 rfl rfl)
theorem dX1_measure_54 : decode cX1_measure 54 = .ok (.ldc 38, 2) := dk_18 38 (dk_at dksX1_measure_2 6 rfl rfl)
theorem dX1_measure_56 : decode cX1_measure 56 = .ok (.iastore, 1) := dk_79 (dk_at dksX1_measure_2 8 rfl rfl)
theorem dX1_measure_57 : decode cX1_measure 57 = .ok (.iinc 2 1, 3) := dk_132 2 1 (dk_at dksX1_measure_2 9 rfl rfl)
theorem dX1_measure_60 : decode cX1_measure 60 = .ok (.goto (-50), 3) := dk_167 255 206 (dk_at dksX1_measure_2 12 rfl rfl)
theorem dX1_measure_63 : decode cX1_measure 63 = .ok (.iinc 1 1, 3) := dk_132 1 1 (dk_at dksX1_measure_2 15 rfl rfl)
theorem dX1_measure_66 : decode cX1_measure 66 = .ok (.goto (-64), 3) := dk_167 255 192 (dk_at dksX1_measure_2 18 rfl rfl)
theorem dX1_measure_69 : decode cX1_measure 69 = .ok (.iconst 0, 1) := dk_3 (dk_at dksX1_measure_2 21 rfl rfl)
theorem dX1_measure_70 : decode cX1_measure 70 = .ok (.istore_n 1, 1) := dk_60 (dk_at dksX1_measure_2 22 rfl rfl)
theorem dX1_measure_71 : decode cX1_measure 71 = .ok (.iload_n 1, 1) := dk_27 (dk_at dksX1_measure_2 23 rfl rfl)
theorem dX1_measure_72 : decode cX1_measure 72 = .ok (.bipush 6, 2) := dk_16 6 (dk_at dksX1_measure_3 0 rfl rfl)
theorem dX1_measure_74 : decode cX1_measure 74 = .ok (.if_icmp .ge 73, 3) := dk_162 0 73 (dk_at dksX1_measure_3 2 rfl rfl)
theorem dX1_measure_77 : decode cX1_measure 77 = .ok (.iconst 0, 1) := dk_3 (dk_at dksX1_measure_3 5 rfl rfl)
theorem dX1_measure_78 : decode cX1_measure 78 = .ok (.istore_n 2, 1) := dk_61 (dk_at dksX1_measure_3 6 rfl rfl)
theorem dX1_measure_79 : decode cX1_measure 79 = .ok (.iload_n 2, 1) := dk_28 (dk_at dksX1_measure_3 7 rfl rfl)
theorem dX1_measure_80 : decode cX1_measure 80 = .ok (.bipush 6, 2) := dk_16 6 (dk_at dksX1_measure_3 8 rfl rfl)
theorem dX1_measure_82 : decode cX1_measure 82 = .ok (.if_icmp .ge 59, 3) := dk_162 0 59 (dk_at dksX1_measure_3 10 rfl rfl)
theorem dX1_measure_85 : decode cX1_measure 85 = .ok (.iconst 0, 1) := dk_3 (dk_at dksX1_measure_3 13 rfl rfl)
theorem dX1_measure_86 : decode cX1_measure 86 = .ok (.istore_n 3, 1) := dk_62 (dk_at dksX1_measure_3 14 rfl rfl)
theorem dX1_measure_87 : decode cX1_measure 87 = .ok (.iload_n 3, 1) := dk_29 (dk_at dksX1_measure_3 15 rfl rfl)
theorem dX1_measure_88 : decode cX1_measure 88 = .ok (.bipush 6, 2) := dk_16 6 (dk_at dksX1_measure_3 16 rfl rfl)
theorem dX1_measure_90 : decode cX1_measure 90 = .ok (.if_icmp .ge 45, 3) := dk_162 0 45 (dk_at dksX1_measure_3 18 rfl rfl)
theorem dX1_measure_93 : decode cX1_measure 93 = .ok (.aload_n 0, 1) := dk_42 (dk_at dksX1_measure_3 21 rfl rfl)
theorem dX1_measure_94 : decode cX1_measure 94 = .ok (.getfield 26, 3) := dk_180 0 26 (dk_at dksX1_measure_4 0 rfl rfl)
theorem dX1_measure_97 : decode cX1_measure 97 = .ok (.iload_n 2, 1) := dk_28 (dk_at dksX1_measure_4 3 rfl rfl)
theorem dX1_measure_98 : decode cX1_measure 98 = .ok (.aaload, 1) := dk_50 (dk_at dksX1_measure_4 4 rfl rfl)
theorem dX1_measure_99 : decode cX1_measure 99 = .ok (.iload_n 3, 1) := dk_29 (dk_at dksX1_measure_4 5 rfl rfl)
theorem dX1_measure_100 : decode cX1_measure 100 = .ok (.aload_n 0, 1) := dk_42 (dk_at dksX1_measure_4 6 rfl rfl)
theorem dX1_measure_101 : decode cX1_measure 101 = .ok (.getfield 26, 3) := dk_180 0 26 (dk_at dksX1_measure_4 7 rfl rfl)
theorem dX1_measure_104 : decode cX1_measure 104 = .ok (.iload_n 2, 1) := dk_28 (dk_at dksX1_measure_4 10 rfl rfl)
theorem dX1_measure_105 : decode cX1_measure 105 = .ok (.aaload, 1) := dk_50 (dk_at dksX1_measure_4 11 rfl rfl)
theorem dX1_measure_106 : decode cX1_measure 106 = .ok (.iload_n 3, 1) := dk_29 (dk_at dksX1_measure_4 12 rfl rfl)
theorem dX1_measure_107 : decode cX1_measure 107 = .ok (.iaload, 1) := dk_46 (dk_at dksX1_measure_4 13 rfl rfl)
theorem dX1_measure_108 : decode cX1_measure 108 = .ok (.aload_n 0, 1) := dk_42 (dk_at dksX1_measure_4 14 rfl rfl)
theorem dX1_measure_109 : decode cX1_measure 109 = .ok (.getfield 26, 3) := dk_180 0 26 (dk_at dksX1_measure_4 15 rfl rfl)
theorem dX1_measure_112 : decode cX1_measure 112 = .ok (.iload_n 2, 1) := dk_28 (dk_at dksX1_measure_4 18 rfl rfl)
theorem dX1_measure_113 : decode cX1_measure 113 = .ok (.aaload, 1) := dk_50 (dk_at dksX1_measure_4 19 rfl rfl)
theorem dX1_measure_114 : decode cX1_measure 114 = .ok (.iload_n 1, 1) := dk_27 (dk_at dksX1_measure_4 20 rfl rfl)
theorem dX1_measure_115 : decode cX1_measure 115 = .ok (.iaload, 1) := dk_46 (dk_at dksX1_measure_4 21 rfl rfl)
theorem dX1_measure_116 : decode cX1_measure 116 = .ok (.aload_n 0, 1) := dk_42 (dk_at dksX1_measure_4 22 rfl rfl)
theorem dX1_measure_117 : decode cX1_measure 117 = .ok (.getfield 26, 3) := dk_180 0 26 (dk_at dksX1_measure_5 0 rfl rfl)
theorem dX1_measure_120 : decode cX1_measure 120 = .ok (.iload_n 1, 1) := dk_27 (dk_at dksX1_measure_5 3 rfl rfl)
theorem dX1_measure_121 : decode cX1_measure 121 = .ok (.aaload, 1) := dk_50 (dk_at dksX1_measure_5 4 rfl rfl)
theorem dX1_measure_122 : decode cX1_measure 122 = .ok (.iload_n 3, 1) := dk_29 (dk_at dksX1_measure_5 5 rfl rfl)
theorem dX1_measure_123 : decode cX1_measure 123 = .ok (.iaload, 1) := dk_46 (dk_at dksX1_measure_5 6 rfl rfl)
theorem dX1_measure_124 : decode cX1_measure 124 = .ok (.iadd, 1) := dk_96 (dk_at dksX1_measure_5 7 rfl rfl)
theorem dX1_measure_125 : decode cX1_measure 125 = .ok (.invokestatic 39, 3) := dk_184 0 39 (dk_at dksX1_measure_5 8 rfl rfl)
theorem dX1_measure_128 : decode cX1_measure 128 = .ok (.iastore, 1) := dk_79 (dk_at dksX1_measure_5 11 rfl rfl)
theorem dX1_measure_129 : decode cX1_measure 129 = .ok (.iinc 3 1, 3) := dk_132 3 1 (dk_at dksX1_measure_5 12 rfl rfl)
theorem dX1_measure_132 : decode cX1_measure 132 = .ok (.goto (-45), 3) := dk_167 255 211 (dk_at dksX1_measure_5 15 rfl rfl)
theorem dX1_measure_135 : decode cX1_measure 135 = .ok (.iinc 2 1, 3) := dk_132 2 1 (dk_at dksX1_measure_5 18 rfl rfl)
theorem dX1_measure_138 : decode cX1_measure 138 = .ok (.goto (-59), 3) := dk_167 255 197 (dk_at dksX1_measure_5 21 rfl rfl)
theorem dX1_measure_141 : decode cX1_measure 141 = .ok (.iinc 1 1, 3) := dk_132 1 1 (dk_at dksX1_measure_6 0 rfl rfl)
theorem dX1_measure_144 : decode cX1_measure 144 = .ok (.goto (-73), 3) := dk_167 255 183 (dk_at dksX1_measure_6 3 rfl rfl)
theorem dX1_measure_147 : decode cX1_measure 147 = .ok (.return_, 1) := dk_177 (dk_at dksX1_measure_6 6 rfl rfl)
abbrev cX1_roads : ByteArray := prog_3_method_3_code
def yX1_roads : MethodName := ⟨RX1, "roads", "()I"⟩
def dkwX1_roads_2 : List UInt8 := [27, 172]
abbrev dktX1_roads_2 : List UInt8 := dkwX1_roads_2 ++ []
def dkwX1_roads_1 : List UInt8 := [29, 46, 158, 0, 7, 4, 167, 0, 4, 3, 96, 60, 132, 3, 1, 167, 255, 229, 132, 2, 1, 167, 255, 215]
abbrev dktX1_roads_1 : List UInt8 := dkwX1_roads_1 ++ dktX1_roads_2
def dkwX1_roads_0 : List UInt8 := [3, 60, 3, 61, 28, 16, 6, 162, 0, 41, 3, 62, 29, 28, 162, 0, 28, 27, 42, 180, 0, 23, 28, 50]
abbrev dktX1_roads_0 : List UInt8 := dkwX1_roads_0 ++ dktX1_roads_1
theorem dksX1_roads_0 : cX1_roads.data.toList.drop 0 = dktX1_roads_0 := by decide +kernel
theorem dksX1_roads_1 : cX1_roads.data.toList.drop 24 = dktX1_roads_1 := dk_seg dksX1_roads_0 24 rfl rfl
theorem dksX1_roads_2 : cX1_roads.data.toList.drop 48 = dktX1_roads_2 := dk_seg dksX1_roads_1 24 rfl rfl
theorem dX1_roads_0 : decode cX1_roads 0 = .ok (.iconst 0, 1) := dk_3 (dk_at dksX1_roads_0 0 rfl rfl)
theorem dX1_roads_1 : decode cX1_roads 1 = .ok (.istore_n 1, 1) := dk_60 (dk_at dksX1_roads_0 1 rfl rfl)
theorem dX1_roads_2 : decode cX1_roads 2 = .ok (.iconst 0, 1) := dk_3 (dk_at dksX1_roads_0 2 rfl rfl)
theorem dX1_roads_3 : decode cX1_roads 3 = .ok (.istore_n 2, 1) := dk_61 (dk_at dksX1_roads_0 3 rfl rfl)
theorem dX1_roads_4 : decode cX1_roads 4 = .ok (.iload_n 2, 1) := dk_28 (dk_at dksX1_roads_0 4 rfl rfl)
theorem dX1_roads_5 : decode cX1_roads 5 = .ok (.bipush 6, 2) := dk_16 6 (dk_at dksX1_roads_0 5 rfl rfl)
theorem dX1_roads_7 : decode cX1_roads 7 = .ok (.if_icmp .ge 41, 3) := dk_162 0 41 (dk_at dksX1_roads_0 7 rfl rfl)
theorem dX1_roads_10 : decode cX1_roads 10 = .ok (.iconst 0, 1) := dk_3 (dk_at dksX1_roads_0 10 rfl rfl)
theorem dX1_roads_11 : decode cX1_roads 11 = .ok (.istore_n 3, 1) := dk_62 (dk_at dksX1_roads_0 11 rfl rfl)
theorem dX1_roads_12 : decode cX1_roads 12 = .ok (.iload_n 3, 1) := dk_29 (dk_at dksX1_roads_0 12 rfl rfl)
theorem dX1_roads_13 : decode cX1_roads 13 = .ok (.iload_n 2, 1) := dk_28 (dk_at dksX1_roads_0 13 rfl rfl)
theorem dX1_roads_14 : decode cX1_roads 14 = .ok (.if_icmp .ge 28, 3) := dk_162 0 28 (dk_at dksX1_roads_0 14 rfl rfl)
theorem dX1_roads_17 : decode cX1_roads 17 = .ok (.iload_n 1, 1) := dk_27 (dk_at dksX1_roads_0 17 rfl rfl)
theorem dX1_roads_18 : decode cX1_roads 18 = .ok (.aload_n 0, 1) := dk_42 (dk_at dksX1_roads_0 18 rfl rfl)
theorem dX1_roads_19 : decode cX1_roads 19 = .ok (.getfield 23, 3) := dk_180 0 23 (dk_at dksX1_roads_0 19 rfl rfl)
theorem dX1_roads_22 : decode cX1_roads 22 = .ok (.iload_n 2, 1) := dk_28 (dk_at dksX1_roads_0 22 rfl rfl)
theorem dX1_roads_23 : decode cX1_roads 23 = .ok (.aaload, 1) := dk_50 (dk_at dksX1_roads_0 23 rfl rfl)
theorem dX1_roads_24 : decode cX1_roads 24 = .ok (.iload_n 3, 1) := dk_29 (dk_at dksX1_roads_1 0 rfl rfl)
theorem dX1_roads_25 : decode cX1_roads 25 = .ok (.iaload, 1) := dk_46 (dk_at dksX1_roads_1 1 rfl rfl)
theorem dX1_roads_26 : decode cX1_roads 26 = .ok (.ifCond .le 7, 3) := dk_158 0 7 (dk_at dksX1_roads_1 2 rfl rfl)
theorem dX1_roads_29 : decode cX1_roads 29 = .ok (.iconst 1, 1) := dk_4 (dk_at dksX1_roads_1 5 rfl rfl)
theorem dX1_roads_30 : decode cX1_roads 30 = .ok (.goto 4, 3) := dk_167 0 4 (dk_at dksX1_roads_1 6 rfl rfl)
theorem dX1_roads_33 : decode cX1_roads 33 = .ok (.iconst 0, 1) := dk_3 (dk_at dksX1_roads_1 9 rfl rfl)
theorem dX1_roads_34 : decode cX1_roads 34 = .ok (.iadd, 1) := dk_96 (dk_at dksX1_roads_1 10 rfl rfl)
theorem dX1_roads_35 : decode cX1_roads 35 = .ok (.istore_n 1, 1) := dk_60 (dk_at dksX1_roads_1 11 rfl rfl)
theorem dX1_roads_36 : decode cX1_roads 36 = .ok (.iinc 3 1, 3) := dk_132 3 1 (dk_at dksX1_roads_1 12 rfl rfl)
theorem dX1_roads_39 : decode cX1_roads 39 = .ok (.goto (-27), 3) := dk_167 255 229 (dk_at dksX1_roads_1 15 rfl rfl)
theorem dX1_roads_42 : decode cX1_roads 42 = .ok (.iinc 2 1, 3) := dk_132 2 1 (dk_at dksX1_roads_1 18 rfl rfl)
theorem dX1_roads_45 : decode cX1_roads 45 = .ok (.goto (-41), 3) := dk_167 255 215 (dk_at dksX1_roads_1 21 rfl rfl)
theorem dX1_roads_48 : decode cX1_roads 48 = .ok (.iload_n 1, 1) := dk_27 (dk_at dksX1_roads_2 0 rfl rfl)
theorem dX1_roads_49 : decode cX1_roads 49 = .ok (.ireturn, 1) := dk_172 (dk_at dksX1_roads_2 1 rfl rfl)
theorem q40 : (Jvm.Cond.initialized "BellLots$Book") ∈ lw_all := lw_g (lw_at lw_m1 2 rfl) rfl
theorem q71 : (Jvm.Cond.instantiable "BellLots$Book" (11 : Nat)) ∈ lw_all := lw_g (lw_at lw_m1 33 rfl) rfl
theorem q73 : (Jvm.Cond.instanceMethod ({ cls := "BellLots$Book", name := "<init>", desc := "()V" } : Jvm.MethodName)) ∈ lw_all := lw_g (lw_at lw_m1 35 rfl) rfl
theorem q74 : (Jvm.Cond.code ({ cls := "BellLots$Book", name := "<init>", desc := "()V" } : Jvm.MethodName) prog_3_method_1_code (1 : Nat) (Option.none : Option Jvm.ClassFile.FieldType)) ∈ lw_all := lw_g (lw_at lw_m1 36 rfl) rfl
theorem q75 : (Jvm.Cond.methodLink "BellLots$Book" (3 : Nat) ({ cls := "java/lang/Object", name := "<init>", desc := "()V" } : Jvm.MethodName)) ∈ lw_all := lw_g (lw_at lw_m1 37 rfl) rfl
theorem q76 : (Jvm.Cond.classLink "BellLots$Book" (21 : Nat) "[[I") ∈ lw_all := lw_g (lw_at lw_m1 38 rfl) rfl
theorem q78 : (Jvm.Cond.fieldLink "BellLots$Book" (9 : Nat) "BellLots$Book" "tower" "[I") ∈ lw_all := lw_g (lw_at lw_m1 40 rfl) rfl
theorem q81 : (Jvm.Cond.fieldLink "BellLots$Book" (15 : Nat) "BellLots$Book" "weight" "[I") ∈ lw_all := lw_g (lw_at lw_m1 43 rfl) rfl
theorem q86 : (Jvm.Cond.fieldLink "BellLots$Book" (18 : Nat) "BellLots$Book" "note" "[I") ∈ lw_all := lw_g (lw_at lw_m1 48 rfl) rfl
theorem q91 : (Jvm.Cond.fieldLink "BellLots$Book" (23 : Nat) "BellLots$Book" "toll" "[[I") ∈ lw_all := lw_g (lw_at lw_m1 53 rfl) rfl
theorem q94 : (Jvm.Cond.fieldLink "BellLots$Book" (26 : Nat) "BellLots$Book" "far" "[[I") ∈ lw_all := lw_g (lw_at lw_m1 56 rfl) rfl
theorem q96 : (Jvm.Cond.fieldLink "BellLots$Book" (29 : Nat) "BellLots$Book" "oathBell" "[I") ∈ lw_all := lw_g (lw_at lw_m1 58 rfl) rfl
theorem q100 : (Jvm.Cond.fieldLink "BellLots$Book" (32 : Nat) "BellLots$Book" "oathTown" "[I") ∈ lw_all := lw_g (lw_at lw_m1 62 rfl) rfl
theorem q104 : (Jvm.Cond.fieldLink "BellLots$Book" (35 : Nat) "BellLots$Book" "oathTerm" "[I") ∈ lw_all := lw_g (lw_at lw_m1 66 rfl) rfl
theorem q116 : (Jvm.Cond.laysFinal "BellLots$Book" "BellLots$Book" "tower" "[I") ∈ lw_all := lw_g (lw_at lw_m1 78 rfl) rfl
theorem q117 : (Jvm.Cond.soleField "BellLots$Book" "tower") ∈ lw_all := lw_g (lw_at lw_m1 79 rfl) rfl
theorem q118 : (Jvm.Cond.laysFinal "BellLots$Book" "BellLots$Book" "weight" "[I") ∈ lw_all := lw_g (lw_at lw_m1 80 rfl) rfl
theorem q119 : (Jvm.Cond.soleField "BellLots$Book" "weight") ∈ lw_all := lw_g (lw_at lw_m1 81 rfl) rfl
theorem q120 : (Jvm.Cond.laysFinal "BellLots$Book" "BellLots$Book" "note" "[I") ∈ lw_all := lw_g (lw_at lw_m1 82 rfl) rfl
theorem q121 : (Jvm.Cond.soleField "BellLots$Book" "note") ∈ lw_all := lw_g (lw_at lw_m1 83 rfl) rfl
theorem q122 : (Jvm.Cond.laysFinal "BellLots$Book" "BellLots$Book" "toll" "[[I") ∈ lw_all := lw_g (lw_at lw_m1 84 rfl) rfl
theorem q123 : (Jvm.Cond.soleField "BellLots$Book" "toll") ∈ lw_all := lw_g (lw_at lw_m1 85 rfl) rfl
theorem q124 : (Jvm.Cond.laysFinal "BellLots$Book" "BellLots$Book" "far" "[[I") ∈ lw_all := lw_g (lw_at lw_m1 86 rfl) rfl
theorem q125 : (Jvm.Cond.soleField "BellLots$Book" "far") ∈ lw_all := lw_g (lw_at lw_m1 87 rfl) rfl
theorem q126 : (Jvm.Cond.laysFinal "BellLots$Book" "BellLots$Book" "oathBell" "[I") ∈ lw_all := lw_g (lw_at lw_m1 88 rfl) rfl
theorem q127 : (Jvm.Cond.soleField "BellLots$Book" "oathBell") ∈ lw_all := lw_g (lw_at lw_m1 89 rfl) rfl
theorem q128 : (Jvm.Cond.laysFinal "BellLots$Book" "BellLots$Book" "oathTown" "[I") ∈ lw_all := lw_g (lw_at lw_m1 90 rfl) rfl
theorem q129 : (Jvm.Cond.soleField "BellLots$Book" "oathTown") ∈ lw_all := lw_g (lw_at lw_m1 91 rfl) rfl
theorem q130 : (Jvm.Cond.laysFinal "BellLots$Book" "BellLots$Book" "oathTerm" "[I") ∈ lw_all := lw_g (lw_at lw_m1 92 rfl) rfl
theorem q131 : (Jvm.Cond.soleField "BellLots$Book" "oathTerm") ∈ lw_all := lw_g (lw_at lw_m1 93 rfl) rfl
theorem q132 : (Jvm.Cond.lays "BellLots$Book" "BellLots$Book" "towns" "I") ∈ lw_all := lw_g (lw_at lw_m1 94 rfl) rfl
theorem q133 : (Jvm.Cond.soleField "BellLots$Book" "towns") ∈ lw_all := lw_g (lw_at lw_m1 95 rfl) rfl
theorem q134 : (Jvm.Cond.lays "BellLots$Book" "BellLots$Book" "oaths" "I") ∈ lw_all := lw_g (lw_at lw_m1 96 rfl) rfl
theorem q135 : (Jvm.Cond.soleField "BellLots$Book" "oaths") ∈ lw_all := lw_g (lw_at lw_m1 97 rfl) rfl
theorem q136 : (Jvm.Cond.lays "BellLots$Book" "BellLots$Book" "items" "I") ∈ lw_all := lw_g (lw_at lw_m1 98 rfl) rfl
theorem q137 : (Jvm.Cond.soleField "BellLots$Book" "items") ∈ lw_all := lw_g (lw_at lw_m1 99 rfl) rfl
theorem q138 : (Jvm.Cond.superclass "BellLots$Book" "java/lang/Object") ∈ lw_all := lw_g (lw_at lw_m1 100 rfl) rfl
theorem q566 : (Jvm.Cond.instanceMethod ({ cls := "BellLots$Book", name := "measure", desc := "()V" } : Jvm.MethodName)) ∈ lw_all := lw_g (lw_at lw_m3 48 rfl) rfl
theorem q567 : (Jvm.Cond.selects "BellLots$Book" ({ cls := "BellLots$Book", name := "measure", desc := "()V" } : Jvm.MethodName) ({ cls := "BellLots$Book", name := "measure", desc := "()V" } : Jvm.MethodName)) ∈ lw_all := lw_g (lw_at lw_m3 49 rfl) rfl
theorem q568 : (Jvm.Cond.code ({ cls := "BellLots$Book", name := "measure", desc := "()V" } : Jvm.MethodName) prog_3_method_2_code (4 : Nat) (Option.none : Option Jvm.ClassFile.FieldType)) ∈ lw_all := lw_g (lw_at lw_m3 50 rfl) rfl
theorem q569 : (Jvm.Cond.constant "BellLots$Book" (38 : Nat) (100000 : Int32)) ∈ lw_all := lw_g (lw_at lw_m3 51 rfl) rfl
theorem q570 : (Jvm.Cond.methodLink "BellLots$Book" (39 : Nat) ({ cls := "java/lang/Math", name := "min", desc := "(II)I" } : Jvm.MethodName)) ∈ lw_all := lw_g (lw_at lw_m3 52 rfl) rfl
theorem q782 : (Jvm.Cond.instanceMethod ({ cls := "BellLots$Book", name := "roads", desc := "()I" } : Jvm.MethodName)) ∈ lw_all := lw_g (lw_at lw_m4 24 rfl) rfl
theorem q783 : (Jvm.Cond.selects "BellLots$Book" ({ cls := "BellLots$Book", name := "roads", desc := "()I" } : Jvm.MethodName) ({ cls := "BellLots$Book", name := "roads", desc := "()I" } : Jvm.MethodName)) ∈ lw_all := lw_g (lw_at lw_m4 25 rfl) rfl
theorem q784 : (Jvm.Cond.code ({ cls := "BellLots$Book", name := "roads", desc := "()I" } : Jvm.MethodName) prog_3_method_3_code (4 : Nat) (Option.some Jvm.ClassFile.FieldType.int)) ∈ lw_all := lw_g (lw_at lw_m4 26 rfl) rfl
theorem in_X1 : ∀ w ∈ wsX10, w ∈ lw_all := lw_in wsX10 [116, 118, 120, 122, 124, 126, 128, 130, 132, 134, 136] (by decide +kernel) (by decide +kernel)
/-! BellLots$Plain -/
set_option maxRecDepth 100000
def RX2 : String := "BellLots$Plain"
def TX2 : u_T := fun k => match k with
  | 0 => ("BellLots$Plain", "term", "I", false)
  | 1 => ("BellLots$Plain", "cuts", "I", false)
  | 2 => ("BellLots$Plain", "bell", "[I", true)
  | 3 => ("BellLots$Plain", "bears", "[I", true)
  | 4 => ("BellLots$Plain", "oath", "[I", true)
  | 5 => ("BellLots$Plain", "strokes", "[[I", true)
  | _ => ("BellLots$Plain", "this$0", "LBellLots;", true)
def tyX2 : Nat → FieldType := fun k => match k with
  | 0 => .int
  | 1 => .int
  | 2 => .array .int
  | 3 => .array .int
  | 4 => .array .int
  | 5 => .array (.array .int)
  | _ => .object "BellLots"
abbrev wsX20 : List Cond := u_ws RX2 TX2 7
theorem nmX2 : ∀ a, a < 7 → ∀ b, b < 7 → a ≠ b → (TX2 a).2.1 ≠ (TX2 b).2.1 := by decide +kernel
theorem tyX2_ok : ∀ k, k < 7 → parseFieldDescriptor (TX2 k).2.2.1 = some (tyX2 k) := by decide +kernel
abbrev cX2_init : ByteArray := prog_7_method_1_code
def yX2_init : MethodName := ⟨RX2, "<init>", "(LBellLots;)V"⟩
def dkwX2_init_1 : List UInt8 := [181, 0, 19, 42, 16, 6, 188, 10, 181, 0, 22, 42, 16, 6, 16, 6, 197, 0, 25, 2, 181, 0, 27, 177]
abbrev dktX2_init_1 : List UInt8 := dkwX2_init_1 ++ []
def dkwX2_init_0 : List UInt8 := [42, 43, 181, 0, 3, 42, 183, 0, 9, 42, 16, 6, 188, 10, 181, 0, 15, 42, 16, 6, 188, 10]
abbrev dktX2_init_0 : List UInt8 := dkwX2_init_0 ++ dktX2_init_1
theorem dksX2_init_0 : cX2_init.data.toList.drop 0 = dktX2_init_0 := by decide +kernel
theorem dksX2_init_1 : cX2_init.data.toList.drop 22 = dktX2_init_1 := dk_seg dksX2_init_0 22 rfl rfl
theorem dX2_init_0 : decode cX2_init 0 = .ok (.aload_n 0, 1) := dk_42 (dk_at dksX2_init_0 0 rfl rfl)
theorem dX2_init_1 : decode cX2_init 1 = .ok (.aload_n 1, 1) := dk_43 (dk_at dksX2_init_0 1 rfl rfl)
theorem dX2_init_2 : decode cX2_init 2 = .ok (.putfield 3, 3) := dk_181 0 3 (dk_at dksX2_init_0 2 rfl rfl)
theorem dX2_init_5 : decode cX2_init 5 = .ok (.aload_n 0, 1) := dk_42 (dk_at dksX2_init_0 5 rfl rfl)
theorem dX2_init_6 : decode cX2_init 6 = .ok (.invokespecial 9, 3) := dk_183 0 9 (dk_at dksX2_init_0 6 rfl rfl)
theorem dX2_init_9 : decode cX2_init 9 = .ok (.aload_n 0, 1) := dk_42 (dk_at dksX2_init_0 9 rfl rfl)
theorem dX2_init_10 : decode cX2_init 10 = .ok (.bipush 6, 2) := dk_16 6 (dk_at dksX2_init_0 10 rfl rfl)
theorem dX2_init_12 : decode cX2_init 12 = .ok (.newarray .int, 2) := dk_188_10 (dk_at dksX2_init_0 12 rfl rfl)
theorem dX2_init_14 : decode cX2_init 14 = .ok (.putfield 15, 3) := dk_181 0 15 (dk_at dksX2_init_0 14 rfl rfl)
theorem dX2_init_17 : decode cX2_init 17 = .ok (.aload_n 0, 1) := dk_42 (dk_at dksX2_init_0 17 rfl rfl)
theorem dX2_init_18 : decode cX2_init 18 = .ok (.bipush 6, 2) := dk_16 6 (dk_at dksX2_init_0 18 rfl rfl)
theorem dX2_init_20 : decode cX2_init 20 = .ok (.newarray .int, 2) := dk_188_10 (dk_at dksX2_init_0 20 rfl rfl)
theorem dX2_init_22 : decode cX2_init 22 = .ok (.putfield 19, 3) := dk_181 0 19 (dk_at dksX2_init_1 0 rfl rfl)
theorem dX2_init_25 : decode cX2_init 25 = .ok (.aload_n 0, 1) := dk_42 (dk_at dksX2_init_1 3 rfl rfl)
theorem dX2_init_26 : decode cX2_init 26 = .ok (.bipush 6, 2) := dk_16 6 (dk_at dksX2_init_1 4 rfl rfl)
theorem dX2_init_28 : decode cX2_init 28 = .ok (.newarray .int, 2) := dk_188_10 (dk_at dksX2_init_1 6 rfl rfl)
theorem dX2_init_30 : decode cX2_init 30 = .ok (.putfield 22, 3) := dk_181 0 22 (dk_at dksX2_init_1 8 rfl rfl)
theorem dX2_init_33 : decode cX2_init 33 = .ok (.aload_n 0, 1) := dk_42 (dk_at dksX2_init_1 11 rfl rfl)
theorem dX2_init_34 : decode cX2_init 34 = .ok (.bipush 6, 2) := dk_16 6 (dk_at dksX2_init_1 12 rfl rfl)
theorem dX2_init_36 : decode cX2_init 36 = .ok (.bipush 6, 2) := dk_16 6 (dk_at dksX2_init_1 14 rfl rfl)
theorem dX2_init_38 : decode cX2_init 38 = .ok (.multianewarray 25 2, 4) := by decide +kernel
theorem dX2_init_42 : decode cX2_init 42 = .ok (.putfield 27, 3) := dk_181 0 27 (dk_at dksX2_init_1 20 rfl rfl)
theorem dX2_init_45 : decode cX2_init 45 = .ok (.return_, 1) := dk_177 (dk_at dksX2_init_1 23 rfl rfl)
abbrev cX2_begin : ByteArray := prog_7_method_2_code
def yX2_begin : MethodName := ⟨RX2, "begin", "()V"⟩
def dkwX2_begin_3 : List UInt8 := [132, 1, 1, 167, 255, 197, 42, 180, 0, 22, 3, 184, 0, 55, 177]
abbrev dktX2_begin_3 : List UInt8 := dkwX2_begin_3 ++ []
def dkwX2_begin_2 : List UInt8 := [180, 0, 37, 180, 0, 46, 27, 46, 184, 0, 49, 79, 42, 180, 0, 27, 27, 50, 3, 184, 0, 55]
abbrev dktX2_begin_2 : List UInt8 := dkwX2_begin_2 ++ dktX2_begin_3
def dkwX2_begin_1 : List UInt8 := [79, 42, 180, 0, 19, 27, 42, 180, 0, 3, 180, 0, 37, 180, 0, 41, 27, 46, 42, 180, 0, 3]
abbrev dktX2_begin_1 : List UInt8 := dkwX2_begin_1 ++ dktX2_begin_2
def dkwX2_begin_0 : List UInt8 := [42, 3, 181, 0, 30, 42, 3, 181, 0, 34, 3, 60, 27, 16, 6, 162, 0, 59, 42, 180, 0, 15, 27, 27]
abbrev dktX2_begin_0 : List UInt8 := dkwX2_begin_0 ++ dktX2_begin_1
theorem dksX2_begin_0 : cX2_begin.data.toList.drop 0 = dktX2_begin_0 := by decide +kernel
theorem dksX2_begin_1 : cX2_begin.data.toList.drop 24 = dktX2_begin_1 := dk_seg dksX2_begin_0 24 rfl rfl
theorem dksX2_begin_2 : cX2_begin.data.toList.drop 46 = dktX2_begin_2 := dk_seg dksX2_begin_1 22 rfl rfl
theorem dksX2_begin_3 : cX2_begin.data.toList.drop 68 = dktX2_begin_3 := dk_seg dksX2_begin_2 22 rfl rfl
theorem dX2_begin_0 : decode cX2_begin 0 = .ok (.aload_n 0, 1) := dk_42 (dk_at dksX2_begin_0 0 rfl rfl)
theorem dX2_begin_1 : decode cX2_begin 1 = .ok (.iconst 0, 1) := dk_3 (dk_at dksX2_begin_0 1 rfl rfl)
theorem dX2_begin_2 : decode cX2_begin 2 = .ok (.putfield 30, 3) := dk_181 0 30 (dk_at dksX2_begin_0 2 rfl rfl)
theorem dX2_begin_5 : decode cX2_begin 5 = .ok (.aload_n 0, 1) := dk_42 (dk_at dksX2_begin_0 5 rfl rfl)
theorem dX2_begin_6 : decode cX2_begin 6 = .ok (.iconst 0, 1) := dk_3 (dk_at dksX2_begin_0 6 rfl rfl)
theorem dX2_begin_7 : decode cX2_begin 7 = .ok (.putfield 34, 3) := dk_181 0 34 (dk_at dksX2_begin_0 7 rfl rfl)
theorem dX2_begin_10 : decode cX2_begin 10 = .ok (.iconst 0, 1) := dk_3 (dk_at dksX2_begin_0 10 rfl rfl)
theorem dX2_begin_11 : decode cX2_begin 11 = .ok (.istore_n 1, 1) := dk_60 (dk_at dksX2_begin_0 11 rfl rfl)
theorem dX2_begin_12 : decode cX2_begin 12 = .ok (.iload_n 1, 1) := dk_27 (dk_at dksX2_begin_0 12 rfl rfl)
theorem dX2_begin_13 : decode cX2_begin 13 = .ok (.bipush 6, 2) := dk_16 6 (dk_at dksX2_begin_0 13 rfl rfl)
theorem dX2_begin_15 : decode cX2_begin 15 = .ok (.if_icmp .ge 59, 3) := dk_162 0 59 (dk_at dksX2_begin_0 15 rfl rfl)
theorem dX2_begin_18 : decode cX2_begin 18 = .ok (.aload_n 0, 1) := dk_42 (dk_at dksX2_begin_0 18 rfl rfl)
theorem dX2_begin_19 : decode cX2_begin 19 = .ok (.getfield 15, 3) := dk_180 0 15 (dk_at dksX2_begin_0 19 rfl rfl)
theorem dX2_begin_22 : decode cX2_begin 22 = .ok (.iload_n 1, 1) := dk_27 (dk_at dksX2_begin_0 22 rfl rfl)
theorem dX2_begin_23 : decode cX2_begin 23 = .ok (.iload_n 1, 1) := dk_27 (dk_at dksX2_begin_0 23 rfl rfl)
theorem dX2_begin_24 : decode cX2_begin 24 = .ok (.iastore, 1) := dk_79 (dk_at dksX2_begin_1 0 rfl rfl)
theorem dX2_begin_25 : decode cX2_begin 25 = .ok (.aload_n 0, 1) := dk_42 (dk_at dksX2_begin_1 1 rfl rfl)
theorem dX2_begin_26 : decode cX2_begin 26 = .ok (.getfield 19, 3) := dk_180 0 19 (dk_at dksX2_begin_1 2 rfl rfl)
theorem dX2_begin_29 : decode cX2_begin 29 = .ok (.iload_n 1, 1) := dk_27 (dk_at dksX2_begin_1 5 rfl rfl)
theorem dX2_begin_30 : decode cX2_begin 30 = .ok (.aload_n 0, 1) := dk_42 (dk_at dksX2_begin_1 6 rfl rfl)
theorem dX2_begin_31 : decode cX2_begin 31 = .ok (.getfield 3, 3) := dk_180 0 3 (dk_at dksX2_begin_1 7 rfl rfl)
theorem dX2_begin_34 : decode cX2_begin 34 = .ok (.getfield 37, 3) := dk_180 0 37 (dk_at dksX2_begin_1 10 rfl rfl)
theorem dX2_begin_37 : decode cX2_begin 37 = .ok (.getfield 41, 3) := dk_180 0 41 (dk_at dksX2_begin_1 13 rfl rfl)
theorem dX2_begin_40 : decode cX2_begin 40 = .ok (.iload_n 1, 1) := dk_27 (dk_at dksX2_begin_1 16 rfl rfl)
theorem dX2_begin_41 : decode cX2_begin 41 = .ok (.iaload, 1) := dk_46 (dk_at dksX2_begin_1 17 rfl rfl)
theorem dX2_begin_42 : decode cX2_begin 42 = .ok (.aload_n 0, 1) := dk_42 (dk_at dksX2_begin_1 18 rfl rfl)
theorem dX2_begin_43 : decode cX2_begin 43 = .ok (.getfield 3, 3) := dk_180 0 3 (dk_at dksX2_begin_1 19 rfl rfl)
theorem dX2_begin_46 : decode cX2_begin 46 = .ok (.getfield 37, 3) := dk_180 0 37 (dk_at dksX2_begin_2 0 rfl rfl)
theorem dX2_begin_49 : decode cX2_begin 49 = .ok (.getfield 46, 3) := dk_180 0 46 (dk_at dksX2_begin_2 3 rfl rfl)
theorem dX2_begin_52 : decode cX2_begin 52 = .ok (.iload_n 1, 1) := dk_27 (dk_at dksX2_begin_2 6 rfl rfl)
theorem dX2_begin_53 : decode cX2_begin 53 = .ok (.iaload, 1) := dk_46 (dk_at dksX2_begin_2 7 rfl rfl)
theorem dX2_begin_54 : decode cX2_begin 54 = .ok (.invokestatic 49, 3) := dk_184 0 49 (dk_at dksX2_begin_2 8 rfl rfl)
theorem dX2_begin_57 : decode cX2_begin 57 = .ok (.iastore, 1) := dk_79 (dk_at dksX2_begin_2 11 rfl rfl)
theorem dX2_begin_58 : decode cX2_begin 58 = .ok (.aload_n 0, 1) := dk_42 (dk_at dksX2_begin_2 12 rfl rfl)
theorem dX2_begin_59 : decode cX2_begin 59 = .ok (.getfield 27, 3) := dk_180 0 27 (dk_at dksX2_begin_2 13 rfl rfl)
theorem dX2_begin_62 : decode cX2_begin 62 = .ok (.iload_n 1, 1) := dk_27 (dk_at dksX2_begin_2 16 rfl rfl)
theorem dX2_begin_63 : decode cX2_begin 63 = .ok (.aaload, 1) := dk_50 (dk_at dksX2_begin_2 17 rfl rfl)
theorem dX2_begin_64 : decode cX2_begin 64 = .ok (.iconst 0, 1) := dk_3 (dk_at dksX2_begin_2 18 rfl rfl)
theorem dX2_begin_65 : decode cX2_begin 65 = .ok (.invokestatic 55, 3) := dk_184 0 55 (dk_at dksX2_begin_2 19 rfl rfl)
theorem dX2_begin_68 : decode cX2_begin 68 = .ok (.iinc 1 1, 3) := dk_132 1 1 (dk_at dksX2_begin_3 0 rfl rfl)
theorem dX2_begin_71 : decode cX2_begin 71 = .ok (.goto (-59), 3) := dk_167 255 197 (dk_at dksX2_begin_3 3 rfl rfl)
theorem dX2_begin_74 : decode cX2_begin 74 = .ok (.aload_n 0, 1) := dk_42 (dk_at dksX2_begin_3 6 rfl rfl)
theorem dX2_begin_75 : decode cX2_begin 75 = .ok (.getfield 22, 3) := dk_180 0 22 (dk_at dksX2_begin_3 7 rfl rfl)
theorem dX2_begin_78 : decode cX2_begin 78 = .ok (.iconst 0, 1) := dk_3 (dk_at dksX2_begin_3 10 rfl rfl)
theorem dX2_begin_79 : decode cX2_begin 79 = .ok (.invokestatic 55, 3) := dk_184 0 55 (dk_at dksX2_begin_3 11 rfl rfl)
theorem dX2_begin_82 : decode cX2_begin 82 = .ok (.return_, 1) := dk_177 (dk_at dksX2_begin_3 14 rfl rfl)
abbrev cX2_where : ByteArray := prog_7_method_4_code
def yX2_where : MethodName := ⟨RX2, "where", "(I)I"⟩
def dkwX2_where_0 : List UInt8 := [3, 61, 42, 180, 0, 15, 28, 46, 27, 159, 0, 9, 132, 2, 1, 167, 255, 243, 28, 172]
abbrev dktX2_where_0 : List UInt8 := dkwX2_where_0 ++ []
theorem dksX2_where_0 : cX2_where.data.toList.drop 0 = dktX2_where_0 := by decide +kernel
theorem dX2_where_0 : decode cX2_where 0 = .ok (.iconst 0, 1) := dk_3 (dk_at dksX2_where_0 0 rfl rfl)
theorem dX2_where_1 : decode cX2_where 1 = .ok (.istore_n 2, 1) := dk_61 (dk_at dksX2_where_0 1 rfl rfl)
theorem dX2_where_2 : decode cX2_where 2 = .ok (.aload_n 0, 1) := dk_42 (dk_at dksX2_where_0 2 rfl rfl)
theorem dX2_where_3 : decode cX2_where 3 = .ok (.getfield 15, 3) := dk_180 0 15 (dk_at dksX2_where_0 3 rfl rfl)
theorem dX2_where_6 : decode cX2_where 6 = .ok (.iload_n 2, 1) := dk_28 (dk_at dksX2_where_0 6 rfl rfl)
theorem dX2_where_7 : decode cX2_where 7 = .ok (.iaload, 1) := dk_46 (dk_at dksX2_where_0 7 rfl rfl)
theorem dX2_where_8 : decode cX2_where 8 = .ok (.iload_n 1, 1) := dk_27 (dk_at dksX2_where_0 8 rfl rfl)
theorem dX2_where_9 : decode cX2_where 9 = .ok (.if_icmp .eq 9, 3) := dk_159 0 9 (dk_at dksX2_where_0 9 rfl rfl)
theorem dX2_where_12 : decode cX2_where 12 = .ok (.iinc 2 1, 3) := dk_132 2 1 (dk_at dksX2_where_0 12 rfl rfl)
theorem dX2_where_15 : decode cX2_where 15 = .ok (.goto (-13), 3) := dk_167 255 243 (dk_at dksX2_where_0 15 rfl rfl)
theorem dX2_where_18 : decode cX2_where 18 = .ok (.iload_n 2, 1) := dk_28 (dk_at dksX2_where_0 18 rfl rfl)
theorem dX2_where_19 : decode cX2_where 19 = .ok (.ireturn, 1) := dk_172 (dk_at dksX2_where_0 19 rfl rfl)
abbrev cX2_dumb : ByteArray := prog_7_method_10_code
def yX2_dumb : MethodName := ⟨RX2, "dumb", "()I"⟩
def dkwX2_dumb_4 : List UInt8 := [167, 0, 4, 3, 128, 60, 132, 3, 1, 167, 255, 175, 132, 2, 1, 167, 255, 153, 27, 172]
abbrev dktX2_dumb_4 : List UInt8 := dkwX2_dumb_4 ++ []
def dkwX2_dumb_3 : List UInt8 := [180, 0, 3, 180, 0, 37, 180, 0, 102, 42, 180, 0, 15, 29, 46, 46, 160, 0, 9, 4, 28, 120]
abbrev dktX2_dumb_3 : List UInt8 := dkwX2_dumb_3 ++ dktX2_dumb_4
def dkwX2_dumb_2 : List UInt8 := [50, 29, 46, 158, 0, 46, 42, 180, 0, 3, 180, 0, 37, 180, 0, 102, 42, 180, 0, 15, 28, 46, 46, 42]
abbrev dktX2_dumb_2 : List UInt8 := dkwX2_dumb_2 ++ dktX2_dumb_3
def dkwX2_dumb_1 : List UInt8 := [180, 0, 3, 180, 0, 37, 180, 0, 67, 162, 0, 73, 27, 42, 180, 0, 3, 180, 0, 37, 180, 0, 99, 28]
abbrev dktX2_dumb_1 : List UInt8 := dkwX2_dumb_1 ++ dktX2_dumb_2
def dkwX2_dumb_0 : List UInt8 := [3, 60, 3, 61, 28, 42, 180, 0, 3, 180, 0, 37, 180, 0, 67, 162, 0, 95, 3, 62, 29, 42]
abbrev dktX2_dumb_0 : List UInt8 := dkwX2_dumb_0 ++ dktX2_dumb_1
theorem dksX2_dumb_0 : cX2_dumb.data.toList.drop 0 = dktX2_dumb_0 := by decide +kernel
theorem dksX2_dumb_1 : cX2_dumb.data.toList.drop 22 = dktX2_dumb_1 := dk_seg dksX2_dumb_0 22 rfl rfl
theorem dksX2_dumb_2 : cX2_dumb.data.toList.drop 46 = dktX2_dumb_2 := dk_seg dksX2_dumb_1 24 rfl rfl
theorem dksX2_dumb_3 : cX2_dumb.data.toList.drop 70 = dktX2_dumb_3 := dk_seg dksX2_dumb_2 24 rfl rfl
theorem dksX2_dumb_4 : cX2_dumb.data.toList.drop 92 = dktX2_dumb_4 := dk_seg dksX2_dumb_3 22 rfl rfl
theorem dX2_dumb_0 : decode cX2_dumb 0 = .ok (.iconst 0, 1) := dk_3 (dk_at dksX2_dumb_0 0 rfl rfl)
theorem dX2_dumb_1 : decode cX2_dumb 1 = .ok (.istore_n 1, 1) := dk_60 (dk_at dksX2_dumb_0 1 rfl rfl)
theorem dX2_dumb_2 : decode cX2_dumb 2 = .ok (.iconst 0, 1) := dk_3 (dk_at dksX2_dumb_0 2 rfl rfl)
theorem dX2_dumb_3 : decode cX2_dumb 3 = .ok (.istore_n 2, 1) := dk_61 (dk_at dksX2_dumb_0 3 rfl rfl)
theorem dX2_dumb_4 : decode cX2_dumb 4 = .ok (.iload_n 2, 1) := dk_28 (dk_at dksX2_dumb_0 4 rfl rfl)
theorem dX2_dumb_5 : decode cX2_dumb 5 = .ok (.aload_n 0, 1) := dk_42 (dk_at dksX2_dumb_0 5 rfl rfl)
theorem dX2_dumb_6 : decode cX2_dumb 6 = .ok (.getfield 3, 3) := dk_180 0 3 (dk_at dksX2_dumb_0 6 rfl rfl)
theorem dX2_dumb_9 : decode cX2_dumb 9 = .ok (.getfield 37, 3) := dk_180 0 37 (dk_at dksX2_dumb_0 9 rfl rfl)
theorem dX2_dumb_12 : decode cX2_dumb 12 = .ok (.getfield 67, 3) := dk_180 0 67 (dk_at dksX2_dumb_0 12 rfl rfl)
theorem dX2_dumb_15 : decode cX2_dumb 15 = .ok (.if_icmp .ge 95, 3) := dk_162 0 95 (dk_at dksX2_dumb_0 15 rfl rfl)
theorem dX2_dumb_18 : decode cX2_dumb 18 = .ok (.iconst 0, 1) := dk_3 (dk_at dksX2_dumb_0 18 rfl rfl)
theorem dX2_dumb_19 : decode cX2_dumb 19 = .ok (.istore_n 3, 1) := dk_62 (dk_at dksX2_dumb_0 19 rfl rfl)
theorem dX2_dumb_20 : decode cX2_dumb 20 = .ok (.iload_n 3, 1) := dk_29 (dk_at dksX2_dumb_0 20 rfl rfl)
theorem dX2_dumb_21 : decode cX2_dumb 21 = .ok (.aload_n 0, 1) := dk_42 (dk_at dksX2_dumb_0 21 rfl rfl)
theorem dX2_dumb_22 : decode cX2_dumb 22 = .ok (.getfield 3, 3) := dk_180 0 3 (dk_at dksX2_dumb_1 0 rfl rfl)
theorem dX2_dumb_25 : decode cX2_dumb 25 = .ok (.getfield 37, 3) := dk_180 0 37 (dk_at dksX2_dumb_1 3 rfl rfl)
theorem dX2_dumb_28 : decode cX2_dumb 28 = .ok (.getfield 67, 3) := dk_180 0 67 (dk_at dksX2_dumb_1 6 rfl rfl)
theorem dX2_dumb_31 : decode cX2_dumb 31 = .ok (.if_icmp .ge 73, 3) := dk_162 0 73 (dk_at dksX2_dumb_1 9 rfl rfl)
theorem dX2_dumb_34 : decode cX2_dumb 34 = .ok (.iload_n 1, 1) := dk_27 (dk_at dksX2_dumb_1 12 rfl rfl)
theorem dX2_dumb_35 : decode cX2_dumb 35 = .ok (.aload_n 0, 1) := dk_42 (dk_at dksX2_dumb_1 13 rfl rfl)
theorem dX2_dumb_36 : decode cX2_dumb 36 = .ok (.getfield 3, 3) := dk_180 0 3 (dk_at dksX2_dumb_1 14 rfl rfl)
theorem dX2_dumb_39 : decode cX2_dumb 39 = .ok (.getfield 37, 3) := dk_180 0 37 (dk_at dksX2_dumb_1 17 rfl rfl)
theorem dX2_dumb_42 : decode cX2_dumb 42 = .ok (.getfield 99, 3) := dk_180 0 99 (dk_at dksX2_dumb_1 20 rfl rfl)
theorem dX2_dumb_45 : decode cX2_dumb 45 = .ok (.iload_n 2, 1) := dk_28 (dk_at dksX2_dumb_1 23 rfl rfl)
theorem dX2_dumb_46 : decode cX2_dumb 46 = .ok (.aaload, 1) := dk_50 (dk_at dksX2_dumb_2 0 rfl rfl)
theorem dX2_dumb_47 : decode cX2_dumb 47 = .ok (.iload_n 3, 1) := dk_29 (dk_at dksX2_dumb_2 1 rfl rfl)
theorem dX2_dumb_48 : decode cX2_dumb 48 = .ok (.iaload, 1) := dk_46 (dk_at dksX2_dumb_2 2 rfl rfl)
theorem dX2_dumb_49 : decode cX2_dumb 49 = .ok (.ifCond .le 46, 3) := dk_158 0 46 (dk_at dksX2_dumb_2 3 rfl rfl)
theorem dX2_dumb_52 : decode cX2_dumb 52 = .ok (.aload_n 0, 1) := dk_42 (dk_at dksX2_dumb_2 6 rfl rfl)
theorem dX2_dumb_53 : decode cX2_dumb 53 = .ok (.getfield 3, 3) := dk_180 0 3 (dk_at dksX2_dumb_2 7 rfl rfl)
theorem dX2_dumb_56 : decode cX2_dumb 56 = .ok (.getfield 37, 3) := dk_180 0 37 (dk_at dksX2_dumb_2 10 rfl rfl)
theorem dX2_dumb_59 : decode cX2_dumb 59 = .ok (.getfield 102, 3) := dk_180 0 102 (dk_at dksX2_dumb_2 13 rfl rfl)
theorem dX2_dumb_62 : decode cX2_dumb 62 = .ok (.aload_n 0, 1) := dk_42 (dk_at dksX2_dumb_2 16 rfl rfl)
theorem dX2_dumb_63 : decode cX2_dumb 63 = .ok (.getfield 15, 3) := dk_180 0 15 (dk_at dksX2_dumb_2 17 rfl rfl)
theorem dX2_dumb_66 : decode cX2_dumb 66 = .ok (.iload_n 2, 1) := dk_28 (dk_at dksX2_dumb_2 20 rfl rfl)
theorem dX2_dumb_67 : decode cX2_dumb 67 = .ok (.iaload, 1) := dk_46 (dk_at dksX2_dumb_2 21 rfl rfl)
theorem dX2_dumb_68 : decode cX2_dumb 68 = .ok (.iaload, 1) := dk_46 (dk_at dksX2_dumb_2 22 rfl rfl)
theorem dX2_dumb_69 : decode cX2_dumb 69 = .ok (.aload_n 0, 1) := dk_42 (dk_at dksX2_dumb_2 23 rfl rfl)
theorem dX2_dumb_70 : decode cX2_dumb 70 = .ok (.getfield 3, 3) := dk_180 0 3 (dk_at dksX2_dumb_3 0 rfl rfl)
theorem dX2_dumb_73 : decode cX2_dumb 73 = .ok (.getfield 37, 3) := dk_180 0 37 (dk_at dksX2_dumb_3 3 rfl rfl)
theorem dX2_dumb_76 : decode cX2_dumb 76 = .ok (.getfield 102, 3) := dk_180 0 102 (dk_at dksX2_dumb_3 6 rfl rfl)
theorem dX2_dumb_79 : decode cX2_dumb 79 = .ok (.aload_n 0, 1) := dk_42 (dk_at dksX2_dumb_3 9 rfl rfl)
theorem dX2_dumb_80 : decode cX2_dumb 80 = .ok (.getfield 15, 3) := dk_180 0 15 (dk_at dksX2_dumb_3 10 rfl rfl)
theorem dX2_dumb_83 : decode cX2_dumb 83 = .ok (.iload_n 3, 1) := dk_29 (dk_at dksX2_dumb_3 13 rfl rfl)
theorem dX2_dumb_84 : decode cX2_dumb 84 = .ok (.iaload, 1) := dk_46 (dk_at dksX2_dumb_3 14 rfl rfl)
theorem dX2_dumb_85 : decode cX2_dumb 85 = .ok (.iaload, 1) := dk_46 (dk_at dksX2_dumb_3 15 rfl rfl)
theorem dX2_dumb_86 : decode cX2_dumb 86 = .ok (.if_icmp .ne 9, 3) := dk_160 0 9 (dk_at dksX2_dumb_3 16 rfl rfl)
theorem dX2_dumb_89 : decode cX2_dumb 89 = .ok (.iconst 1, 1) := dk_4 (dk_at dksX2_dumb_3 19 rfl rfl)
theorem dX2_dumb_90 : decode cX2_dumb 90 = .ok (.iload_n 2, 1) := dk_28 (dk_at dksX2_dumb_3 20 rfl rfl)
theorem dX2_dumb_91 : decode cX2_dumb 91 = .ok (.ishl, 1) := dk_120 (dk_at dksX2_dumb_3 21 rfl rfl)
theorem dX2_dumb_92 : decode cX2_dumb 92 = .ok (.goto 4, 3) := dk_167 0 4 (dk_at dksX2_dumb_4 0 rfl rfl)
theorem dX2_dumb_95 : decode cX2_dumb 95 = .ok (.iconst 0, 1) := dk_3 (dk_at dksX2_dumb_4 3 rfl rfl)
theorem dX2_dumb_96 : decode cX2_dumb 96 = .ok (.ior, 1) := dk_128 (dk_at dksX2_dumb_4 4 rfl rfl)
theorem dX2_dumb_97 : decode cX2_dumb 97 = .ok (.istore_n 1, 1) := dk_60 (dk_at dksX2_dumb_4 5 rfl rfl)
theorem dX2_dumb_98 : decode cX2_dumb 98 = .ok (.iinc 3 1, 3) := dk_132 3 1 (dk_at dksX2_dumb_4 6 rfl rfl)
theorem dX2_dumb_101 : decode cX2_dumb 101 = .ok (.goto (-81), 3) := dk_167 255 175 (dk_at dksX2_dumb_4 9 rfl rfl)
theorem dX2_dumb_104 : decode cX2_dumb 104 = .ok (.iinc 2 1, 3) := dk_132 2 1 (dk_at dksX2_dumb_4 12 rfl rfl)
theorem dX2_dumb_107 : decode cX2_dumb 107 = .ok (.goto (-103), 3) := dk_167 255 153 (dk_at dksX2_dumb_4 15 rfl rfl)
theorem dX2_dumb_110 : decode cX2_dumb 110 = .ok (.iload_n 1, 1) := dk_27 (dk_at dksX2_dumb_4 18 rfl rfl)
theorem dX2_dumb_111 : decode cX2_dumb 111 = .ok (.ireturn, 1) := dk_172 (dk_at dksX2_dumb_4 19 rfl rfl)
abbrev cX2_homes : ByteArray := prog_7_method_9_code
def yX2_homes : MethodName := ⟨RX2, "homes", "()I"⟩
def dkwX2_homes_1 : List UInt8 := [46, 28, 160, 0, 9, 4, 28, 120, 167, 0, 4, 3, 128, 60, 132, 2, 1, 167, 255, 219, 27, 172]
abbrev dktX2_homes_1 : List UInt8 := dkwX2_homes_1 ++ []
def dkwX2_homes_0 : List UInt8 := [3, 60, 3, 61, 28, 42, 180, 0, 3, 180, 0, 37, 180, 0, 67, 162, 0, 29, 27, 42, 180, 0, 15, 28]
abbrev dktX2_homes_0 : List UInt8 := dkwX2_homes_0 ++ dktX2_homes_1
theorem dksX2_homes_0 : cX2_homes.data.toList.drop 0 = dktX2_homes_0 := by decide +kernel
theorem dksX2_homes_1 : cX2_homes.data.toList.drop 24 = dktX2_homes_1 := dk_seg dksX2_homes_0 24 rfl rfl
theorem dX2_homes_0 : decode cX2_homes 0 = .ok (.iconst 0, 1) := dk_3 (dk_at dksX2_homes_0 0 rfl rfl)
theorem dX2_homes_1 : decode cX2_homes 1 = .ok (.istore_n 1, 1) := dk_60 (dk_at dksX2_homes_0 1 rfl rfl)
theorem dX2_homes_2 : decode cX2_homes 2 = .ok (.iconst 0, 1) := dk_3 (dk_at dksX2_homes_0 2 rfl rfl)
theorem dX2_homes_3 : decode cX2_homes 3 = .ok (.istore_n 2, 1) := dk_61 (dk_at dksX2_homes_0 3 rfl rfl)
theorem dX2_homes_4 : decode cX2_homes 4 = .ok (.iload_n 2, 1) := dk_28 (dk_at dksX2_homes_0 4 rfl rfl)
theorem dX2_homes_5 : decode cX2_homes 5 = .ok (.aload_n 0, 1) := dk_42 (dk_at dksX2_homes_0 5 rfl rfl)
theorem dX2_homes_6 : decode cX2_homes 6 = .ok (.getfield 3, 3) := dk_180 0 3 (dk_at dksX2_homes_0 6 rfl rfl)
theorem dX2_homes_9 : decode cX2_homes 9 = .ok (.getfield 37, 3) := dk_180 0 37 (dk_at dksX2_homes_0 9 rfl rfl)
theorem dX2_homes_12 : decode cX2_homes 12 = .ok (.getfield 67, 3) := dk_180 0 67 (dk_at dksX2_homes_0 12 rfl rfl)
theorem dX2_homes_15 : decode cX2_homes 15 = .ok (.if_icmp .ge 29, 3) := dk_162 0 29 (dk_at dksX2_homes_0 15 rfl rfl)
theorem dX2_homes_18 : decode cX2_homes 18 = .ok (.iload_n 1, 1) := dk_27 (dk_at dksX2_homes_0 18 rfl rfl)
theorem dX2_homes_19 : decode cX2_homes 19 = .ok (.aload_n 0, 1) := dk_42 (dk_at dksX2_homes_0 19 rfl rfl)
theorem dX2_homes_20 : decode cX2_homes 20 = .ok (.getfield 15, 3) := dk_180 0 15 (dk_at dksX2_homes_0 20 rfl rfl)
theorem dX2_homes_23 : decode cX2_homes 23 = .ok (.iload_n 2, 1) := dk_28 (dk_at dksX2_homes_0 23 rfl rfl)
theorem dX2_homes_24 : decode cX2_homes 24 = .ok (.iaload, 1) := dk_46 (dk_at dksX2_homes_1 0 rfl rfl)
theorem dX2_homes_25 : decode cX2_homes 25 = .ok (.iload_n 2, 1) := dk_28 (dk_at dksX2_homes_1 1 rfl rfl)
theorem dX2_homes_26 : decode cX2_homes 26 = .ok (.if_icmp .ne 9, 3) := dk_160 0 9 (dk_at dksX2_homes_1 2 rfl rfl)
theorem dX2_homes_29 : decode cX2_homes 29 = .ok (.iconst 1, 1) := dk_4 (dk_at dksX2_homes_1 5 rfl rfl)
theorem dX2_homes_30 : decode cX2_homes 30 = .ok (.iload_n 2, 1) := dk_28 (dk_at dksX2_homes_1 6 rfl rfl)
theorem dX2_homes_31 : decode cX2_homes 31 = .ok (.ishl, 1) := dk_120 (dk_at dksX2_homes_1 7 rfl rfl)
theorem dX2_homes_32 : decode cX2_homes 32 = .ok (.goto 4, 3) := dk_167 0 4 (dk_at dksX2_homes_1 8 rfl rfl)
theorem dX2_homes_35 : decode cX2_homes 35 = .ok (.iconst 0, 1) := dk_3 (dk_at dksX2_homes_1 11 rfl rfl)
theorem dX2_homes_36 : decode cX2_homes 36 = .ok (.ior, 1) := dk_128 (dk_at dksX2_homes_1 12 rfl rfl)
theorem dX2_homes_37 : decode cX2_homes 37 = .ok (.istore_n 1, 1) := dk_60 (dk_at dksX2_homes_1 13 rfl rfl)
theorem dX2_homes_38 : decode cX2_homes 38 = .ok (.iinc 2 1, 3) := dk_132 2 1 (dk_at dksX2_homes_1 14 rfl rfl)
theorem dX2_homes_41 : decode cX2_homes 41 = .ok (.goto (-37), 3) := dk_167 255 219 (dk_at dksX2_homes_1 17 rfl rfl)
theorem dX2_homes_44 : decode cX2_homes 44 = .ok (.iload_n 1, 1) := dk_27 (dk_at dksX2_homes_1 20 rfl rfl)
theorem dX2_homes_45 : decode cX2_homes 45 = .ok (.ireturn, 1) := dk_172 (dk_at dksX2_homes_1 21 rfl rfl)
abbrev cX2_copyOf : ByteArray := prog_7_method_3_code
def yX2_copyOf : MethodName := ⟨RX2, "copyOf", "(LBellLots$Plain;)V"⟩
def dkwX2_copyOf_4 : List UInt8 := [177]
abbrev dktX2_copyOf_4 : List UInt8 := dkwX2_copyOf_4 ++ []
def dkwX2_copyOf_3 : List UInt8 := [180, 0, 27, 28, 50, 3, 42, 180, 0, 27, 28, 50, 3, 16, 6, 184, 0, 61, 132, 2, 1, 167, 255, 228]
abbrev dktX2_copyOf_3 : List UInt8 := dkwX2_copyOf_3 ++ dktX2_copyOf_4
def dkwX2_copyOf_2 : List UInt8 := [43, 180, 0, 22, 3, 42, 180, 0, 22, 3, 16, 6, 184, 0, 61, 3, 61, 28, 16, 6, 162, 0, 28, 43]
abbrev dktX2_copyOf_2 : List UInt8 := dkwX2_copyOf_2 ++ dktX2_copyOf_3
def dkwX2_copyOf_1 : List UInt8 := [180, 0, 15, 3, 16, 6, 184, 0, 61, 43, 180, 0, 19, 3, 42, 180, 0, 19, 3, 16, 6, 184, 0, 61]
abbrev dktX2_copyOf_1 : List UInt8 := dkwX2_copyOf_1 ++ dktX2_copyOf_2
def dkwX2_copyOf_0 : List UInt8 := [42, 43, 180, 0, 30, 181, 0, 30, 42, 43, 180, 0, 34, 181, 0, 34, 43, 180, 0, 15, 3, 42]
abbrev dktX2_copyOf_0 : List UInt8 := dkwX2_copyOf_0 ++ dktX2_copyOf_1
theorem dksX2_copyOf_0 : cX2_copyOf.data.toList.drop 0 = dktX2_copyOf_0 := by decide +kernel
theorem dksX2_copyOf_1 : cX2_copyOf.data.toList.drop 22 = dktX2_copyOf_1 := dk_seg dksX2_copyOf_0 22 rfl rfl
theorem dksX2_copyOf_2 : cX2_copyOf.data.toList.drop 46 = dktX2_copyOf_2 := dk_seg dksX2_copyOf_1 24 rfl rfl
theorem dksX2_copyOf_3 : cX2_copyOf.data.toList.drop 70 = dktX2_copyOf_3 := dk_seg dksX2_copyOf_2 24 rfl rfl
theorem dksX2_copyOf_4 : cX2_copyOf.data.toList.drop 94 = dktX2_copyOf_4 := dk_seg dksX2_copyOf_3 24 rfl rfl
theorem dX2_copyOf_0 : decode cX2_copyOf 0 = .ok (.aload_n 0, 1) := dk_42 (dk_at dksX2_copyOf_0 0 rfl rfl)
theorem dX2_copyOf_1 : decode cX2_copyOf 1 = .ok (.aload_n 1, 1) := dk_43 (dk_at dksX2_copyOf_0 1 rfl rfl)
theorem dX2_copyOf_2 : decode cX2_copyOf 2 = .ok (.getfield 30, 3) := dk_180 0 30 (dk_at dksX2_copyOf_0 2 rfl rfl)
theorem dX2_copyOf_5 : decode cX2_copyOf 5 = .ok (.putfield 30, 3) := dk_181 0 30 (dk_at dksX2_copyOf_0 5 rfl rfl)
theorem dX2_copyOf_8 : decode cX2_copyOf 8 = .ok (.aload_n 0, 1) := dk_42 (dk_at dksX2_copyOf_0 8 rfl rfl)
theorem dX2_copyOf_9 : decode cX2_copyOf 9 = .ok (.aload_n 1, 1) := dk_43 (dk_at dksX2_copyOf_0 9 rfl rfl)
theorem dX2_copyOf_10 : decode cX2_copyOf 10 = .ok (.getfield 34, 3) := dk_180 0 34 (dk_at dksX2_copyOf_0 10 rfl rfl)
theorem dX2_copyOf_13 : decode cX2_copyOf 13 = .ok (.putfield 34, 3) := dk_181 0 34 (dk_at dksX2_copyOf_0 13 rfl rfl)
theorem dX2_copyOf_16 : decode cX2_copyOf 16 = .ok (.aload_n 1, 1) := dk_43 (dk_at dksX2_copyOf_0 16 rfl rfl)
theorem dX2_copyOf_17 : decode cX2_copyOf 17 = .ok (.getfield 15, 3) := dk_180 0 15 (dk_at dksX2_copyOf_0 17 rfl rfl)
theorem dX2_copyOf_20 : decode cX2_copyOf 20 = .ok (.iconst 0, 1) := dk_3 (dk_at dksX2_copyOf_0 20 rfl rfl)
theorem dX2_copyOf_21 : decode cX2_copyOf 21 = .ok (.aload_n 0, 1) := dk_42 (dk_at dksX2_copyOf_0 21 rfl rfl)
theorem dX2_copyOf_22 : decode cX2_copyOf 22 = .ok (.getfield 15, 3) := dk_180 0 15 (dk_at dksX2_copyOf_1 0 rfl rfl)
theorem dX2_copyOf_25 : decode cX2_copyOf 25 = .ok (.iconst 0, 1) := dk_3 (dk_at dksX2_copyOf_1 3 rfl rfl)
theorem dX2_copyOf_26 : decode cX2_copyOf 26 = .ok (.bipush 6, 2) := dk_16 6 (dk_at dksX2_copyOf_1 4 rfl rfl)
theorem dX2_copyOf_28 : decode cX2_copyOf 28 = .ok (.invokestatic 61, 3) := dk_184 0 61 (dk_at dksX2_copyOf_1 6 rfl rfl)
theorem dX2_copyOf_31 : decode cX2_copyOf 31 = .ok (.aload_n 1, 1) := dk_43 (dk_at dksX2_copyOf_1 9 rfl rfl)
theorem dX2_copyOf_32 : decode cX2_copyOf 32 = .ok (.getfield 19, 3) := dk_180 0 19 (dk_at dksX2_copyOf_1 10 rfl rfl)
theorem dX2_copyOf_35 : decode cX2_copyOf 35 = .ok (.iconst 0, 1) := dk_3 (dk_at dksX2_copyOf_1 13 rfl rfl)
theorem dX2_copyOf_36 : decode cX2_copyOf 36 = .ok (.aload_n 0, 1) := dk_42 (dk_at dksX2_copyOf_1 14 rfl rfl)
theorem dX2_copyOf_37 : decode cX2_copyOf 37 = .ok (.getfield 19, 3) := dk_180 0 19 (dk_at dksX2_copyOf_1 15 rfl rfl)
theorem dX2_copyOf_40 : decode cX2_copyOf 40 = .ok (.iconst 0, 1) := dk_3 (dk_at dksX2_copyOf_1 18 rfl rfl)
theorem dX2_copyOf_41 : decode cX2_copyOf 41 = .ok (.bipush 6, 2) := dk_16 6 (dk_at dksX2_copyOf_1 19 rfl rfl)
theorem dX2_copyOf_43 : decode cX2_copyOf 43 = .ok (.invokestatic 61, 3) := dk_184 0 61 (dk_at dksX2_copyOf_1 21 rfl rfl)
theorem dX2_copyOf_46 : decode cX2_copyOf 46 = .ok (.aload_n 1, 1) := dk_43 (dk_at dksX2_copyOf_2 0 rfl rfl)
theorem dX2_copyOf_47 : decode cX2_copyOf 47 = .ok (.getfield 22, 3) := dk_180 0 22 (dk_at dksX2_copyOf_2 1 rfl rfl)
theorem dX2_copyOf_50 : decode cX2_copyOf 50 = .ok (.iconst 0, 1) := dk_3 (dk_at dksX2_copyOf_2 4 rfl rfl)
theorem dX2_copyOf_51 : decode cX2_copyOf 51 = .ok (.aload_n 0, 1) := dk_42 (dk_at dksX2_copyOf_2 5 rfl rfl)
theorem dX2_copyOf_52 : decode cX2_copyOf 52 = .ok (.getfield 22, 3) := dk_180 0 22 (dk_at dksX2_copyOf_2 6 rfl rfl)
theorem dX2_copyOf_55 : decode cX2_copyOf 55 = .ok (.iconst 0, 1) := dk_3 (dk_at dksX2_copyOf_2 9 rfl rfl)
theorem dX2_copyOf_56 : decode cX2_copyOf 56 = .ok (.bipush 6, 2) := dk_16 6 (dk_at dksX2_copyOf_2 10 rfl rfl)
theorem dX2_copyOf_58 : decode cX2_copyOf 58 = .ok (.invokestatic 61, 3) := dk_184 0 61 (dk_at dksX2_copyOf_2 12 rfl rfl)
theorem dX2_copyOf_61 : decode cX2_copyOf 61 = .ok (.iconst 0, 1) := dk_3 (dk_at dksX2_copyOf_2 15 rfl rfl)
theorem dX2_copyOf_62 : decode cX2_copyOf 62 = .ok (.istore_n 2, 1) := dk_61 (dk_at dksX2_copyOf_2 16 rfl rfl)
theorem dX2_copyOf_63 : decode cX2_copyOf 63 = .ok (.iload_n 2, 1) := dk_28 (dk_at dksX2_copyOf_2 17 rfl rfl)
theorem dX2_copyOf_64 : decode cX2_copyOf 64 = .ok (.bipush 6, 2) := dk_16 6 (dk_at dksX2_copyOf_2 18 rfl rfl)
theorem dX2_copyOf_66 : decode cX2_copyOf 66 = .ok (.if_icmp .ge 28, 3) := dk_162 0 28 (dk_at dksX2_copyOf_2 20 rfl rfl)
theorem dX2_copyOf_69 : decode cX2_copyOf 69 = .ok (.aload_n 1, 1) := dk_43 (dk_at dksX2_copyOf_2 23 rfl rfl)
theorem dX2_copyOf_70 : decode cX2_copyOf 70 = .ok (.getfield 27, 3) := dk_180 0 27 (dk_at dksX2_copyOf_3 0 rfl rfl)
theorem dX2_copyOf_73 : decode cX2_copyOf 73 = .ok (.iload_n 2, 1) := dk_28 (dk_at dksX2_copyOf_3 3 rfl rfl)
theorem dX2_copyOf_74 : decode cX2_copyOf 74 = .ok (.aaload, 1) := dk_50 (dk_at dksX2_copyOf_3 4 rfl rfl)
theorem dX2_copyOf_75 : decode cX2_copyOf 75 = .ok (.iconst 0, 1) := dk_3 (dk_at dksX2_copyOf_3 5 rfl rfl)
theorem dX2_copyOf_76 : decode cX2_copyOf 76 = .ok (.aload_n 0, 1) := dk_42 (dk_at dksX2_copyOf_3 6 rfl rfl)
theorem dX2_copyOf_77 : decode cX2_copyOf 77 = .ok (.getfield 27, 3) := dk_180 0 27 (dk_at dksX2_copyOf_3 7 rfl rfl)
theorem dX2_copyOf_80 : decode cX2_copyOf 80 = .ok (.iload_n 2, 1) := dk_28 (dk_at dksX2_copyOf_3 10 rfl rfl)
theorem dX2_copyOf_81 : decode cX2_copyOf 81 = .ok (.aaload, 1) := dk_50 (dk_at dksX2_copyOf_3 11 rfl rfl)
theorem dX2_copyOf_82 : decode cX2_copyOf 82 = .ok (.iconst 0, 1) := dk_3 (dk_at dksX2_copyOf_3 12 rfl rfl)
theorem dX2_copyOf_83 : decode cX2_copyOf 83 = .ok (.bipush 6, 2) := dk_16 6 (dk_at dksX2_copyOf_3 13 rfl rfl)
theorem dX2_copyOf_85 : decode cX2_copyOf 85 = .ok (.invokestatic 61, 3) := dk_184 0 61 (dk_at dksX2_copyOf_3 15 rfl rfl)
theorem dX2_copyOf_88 : decode cX2_copyOf 88 = .ok (.iinc 2 1, 3) := dk_132 2 1 (dk_at dksX2_copyOf_3 18 rfl rfl)
theorem dX2_copyOf_91 : decode cX2_copyOf 91 = .ok (.goto (-28), 3) := dk_167 255 228 (dk_at dksX2_copyOf_3 21 rfl rfl)
theorem dX2_copyOf_94 : decode cX2_copyOf 94 = .ok (.return_, 1) := dk_177 (dk_at dksX2_copyOf_4 0 rfl rfl)
abbrev cX2_draw : ByteArray := prog_7_method_7_code
def yX2_draw : MethodName := ⟨RX2, "draw", "(I)I"⟩
def dkwX2_draw_4 : List UInt8 := [181, 0, 30, 42, 182, 0, 95, 172]
abbrev dktX2_draw_4 : List UInt8 := dkwX2_draw_4 ++ []
def dkwX2_draw_3 : List UInt8 := [180, 0, 15, 3, 42, 180, 0, 3, 180, 0, 37, 180, 0, 67, 184, 0, 61, 42, 89, 180, 0, 30, 4, 96]
abbrev dktX2_draw_3 : List UInt8 := dkwX2_draw_3 ++ dktX2_draw_4
def dkwX2_draw_2 : List UInt8 := [180, 0, 92, 28, 46, 46, 79, 132, 2, 1, 167, 255, 216, 42, 180, 0, 3, 180, 0, 89, 3, 42]
abbrev dktX2_draw_2 : List UInt8 := dkwX2_draw_2 ++ dktX2_draw_3
def dkwX2_draw_1 : List UInt8 := [180, 0, 67, 162, 0, 32, 42, 180, 0, 3, 180, 0, 89, 28, 42, 180, 0, 15, 42, 180, 0, 3]
abbrev dktX2_draw_1 : List UInt8 := dkwX2_draw_1 ++ dktX2_draw_2
def dkwX2_draw_0 : List UInt8 := [42, 182, 0, 82, 42, 180, 0, 3, 27, 182, 0, 85, 3, 61, 28, 42, 180, 0, 3, 180, 0, 37]
abbrev dktX2_draw_0 : List UInt8 := dkwX2_draw_0 ++ dktX2_draw_1
theorem dksX2_draw_0 : cX2_draw.data.toList.drop 0 = dktX2_draw_0 := by decide +kernel
theorem dksX2_draw_1 : cX2_draw.data.toList.drop 22 = dktX2_draw_1 := dk_seg dksX2_draw_0 22 rfl rfl
theorem dksX2_draw_2 : cX2_draw.data.toList.drop 44 = dktX2_draw_2 := dk_seg dksX2_draw_1 22 rfl rfl
theorem dksX2_draw_3 : cX2_draw.data.toList.drop 66 = dktX2_draw_3 := dk_seg dksX2_draw_2 22 rfl rfl
theorem dksX2_draw_4 : cX2_draw.data.toList.drop 90 = dktX2_draw_4 := dk_seg dksX2_draw_3 24 rfl rfl
theorem dX2_draw_0 : decode cX2_draw 0 = .ok (.aload_n 0, 1) := dk_42 (dk_at dksX2_draw_0 0 rfl rfl)
theorem dX2_draw_1 : decode cX2_draw 1 = .ok (.invokevirtual 82, 3) := dk_182 0 82 (dk_at dksX2_draw_0 1 rfl rfl)
theorem dX2_draw_4 : decode cX2_draw 4 = .ok (.aload_n 0, 1) := dk_42 (dk_at dksX2_draw_0 4 rfl rfl)
theorem dX2_draw_5 : decode cX2_draw 5 = .ok (.getfield 3, 3) := dk_180 0 3 (dk_at dksX2_draw_0 5 rfl rfl)
theorem dX2_draw_8 : decode cX2_draw 8 = .ok (.iload_n 1, 1) := dk_27 (dk_at dksX2_draw_0 8 rfl rfl)
theorem dX2_draw_9 : decode cX2_draw 9 = .ok (.invokevirtual 85, 3) := dk_182 0 85 (dk_at dksX2_draw_0 9 rfl rfl)
theorem dX2_draw_12 : decode cX2_draw 12 = .ok (.iconst 0, 1) := dk_3 (dk_at dksX2_draw_0 12 rfl rfl)
theorem dX2_draw_13 : decode cX2_draw 13 = .ok (.istore_n 2, 1) := dk_61 (dk_at dksX2_draw_0 13 rfl rfl)
theorem dX2_draw_14 : decode cX2_draw 14 = .ok (.iload_n 2, 1) := dk_28 (dk_at dksX2_draw_0 14 rfl rfl)
theorem dX2_draw_15 : decode cX2_draw 15 = .ok (.aload_n 0, 1) := dk_42 (dk_at dksX2_draw_0 15 rfl rfl)
theorem dX2_draw_16 : decode cX2_draw 16 = .ok (.getfield 3, 3) := dk_180 0 3 (dk_at dksX2_draw_0 16 rfl rfl)
theorem dX2_draw_19 : decode cX2_draw 19 = .ok (.getfield 37, 3) := dk_180 0 37 (dk_at dksX2_draw_0 19 rfl rfl)
theorem dX2_draw_22 : decode cX2_draw 22 = .ok (.getfield 67, 3) := dk_180 0 67 (dk_at dksX2_draw_1 0 rfl rfl)
theorem dX2_draw_25 : decode cX2_draw 25 = .ok (.if_icmp .ge 32, 3) := dk_162 0 32 (dk_at dksX2_draw_1 3 rfl rfl)
theorem dX2_draw_28 : decode cX2_draw 28 = .ok (.aload_n 0, 1) := dk_42 (dk_at dksX2_draw_1 6 rfl rfl)
theorem dX2_draw_29 : decode cX2_draw 29 = .ok (.getfield 3, 3) := dk_180 0 3 (dk_at dksX2_draw_1 7 rfl rfl)
theorem dX2_draw_32 : decode cX2_draw 32 = .ok (.getfield 89, 3) := dk_180 0 89 (dk_at dksX2_draw_1 10 rfl rfl)
theorem dX2_draw_35 : decode cX2_draw 35 = .ok (.iload_n 2, 1) := dk_28 (dk_at dksX2_draw_1 13 rfl rfl)
theorem dX2_draw_36 : decode cX2_draw 36 = .ok (.aload_n 0, 1) := dk_42 (dk_at dksX2_draw_1 14 rfl rfl)
theorem dX2_draw_37 : decode cX2_draw 37 = .ok (.getfield 15, 3) := dk_180 0 15 (dk_at dksX2_draw_1 15 rfl rfl)
theorem dX2_draw_40 : decode cX2_draw 40 = .ok (.aload_n 0, 1) := dk_42 (dk_at dksX2_draw_1 18 rfl rfl)
theorem dX2_draw_41 : decode cX2_draw 41 = .ok (.getfield 3, 3) := dk_180 0 3 (dk_at dksX2_draw_1 19 rfl rfl)
theorem dX2_draw_44 : decode cX2_draw 44 = .ok (.getfield 92, 3) := dk_180 0 92 (dk_at dksX2_draw_2 0 rfl rfl)
theorem dX2_draw_47 : decode cX2_draw 47 = .ok (.iload_n 2, 1) := dk_28 (dk_at dksX2_draw_2 3 rfl rfl)
theorem dX2_draw_48 : decode cX2_draw 48 = .ok (.iaload, 1) := dk_46 (dk_at dksX2_draw_2 4 rfl rfl)
theorem dX2_draw_49 : decode cX2_draw 49 = .ok (.iaload, 1) := dk_46 (dk_at dksX2_draw_2 5 rfl rfl)
theorem dX2_draw_50 : decode cX2_draw 50 = .ok (.iastore, 1) := dk_79 (dk_at dksX2_draw_2 6 rfl rfl)
theorem dX2_draw_51 : decode cX2_draw 51 = .ok (.iinc 2 1, 3) := dk_132 2 1 (dk_at dksX2_draw_2 7 rfl rfl)
theorem dX2_draw_54 : decode cX2_draw 54 = .ok (.goto (-40), 3) := dk_167 255 216 (dk_at dksX2_draw_2 10 rfl rfl)
theorem dX2_draw_57 : decode cX2_draw 57 = .ok (.aload_n 0, 1) := dk_42 (dk_at dksX2_draw_2 13 rfl rfl)
theorem dX2_draw_58 : decode cX2_draw 58 = .ok (.getfield 3, 3) := dk_180 0 3 (dk_at dksX2_draw_2 14 rfl rfl)
theorem dX2_draw_61 : decode cX2_draw 61 = .ok (.getfield 89, 3) := dk_180 0 89 (dk_at dksX2_draw_2 17 rfl rfl)
theorem dX2_draw_64 : decode cX2_draw 64 = .ok (.iconst 0, 1) := dk_3 (dk_at dksX2_draw_2 20 rfl rfl)
theorem dX2_draw_65 : decode cX2_draw 65 = .ok (.aload_n 0, 1) := dk_42 (dk_at dksX2_draw_2 21 rfl rfl)
theorem dX2_draw_66 : decode cX2_draw 66 = .ok (.getfield 15, 3) := dk_180 0 15 (dk_at dksX2_draw_3 0 rfl rfl)
theorem dX2_draw_69 : decode cX2_draw 69 = .ok (.iconst 0, 1) := dk_3 (dk_at dksX2_draw_3 3 rfl rfl)
theorem dX2_draw_70 : decode cX2_draw 70 = .ok (.aload_n 0, 1) := dk_42 (dk_at dksX2_draw_3 4 rfl rfl)
theorem dX2_draw_71 : decode cX2_draw 71 = .ok (.getfield 3, 3) := dk_180 0 3 (dk_at dksX2_draw_3 5 rfl rfl)
theorem dX2_draw_74 : decode cX2_draw 74 = .ok (.getfield 37, 3) := dk_180 0 37 (dk_at dksX2_draw_3 8 rfl rfl)
theorem dX2_draw_77 : decode cX2_draw 77 = .ok (.getfield 67, 3) := dk_180 0 67 (dk_at dksX2_draw_3 11 rfl rfl)
theorem dX2_draw_80 : decode cX2_draw 80 = .ok (.invokestatic 61, 3) := dk_184 0 61 (dk_at dksX2_draw_3 14 rfl rfl)
theorem dX2_draw_83 : decode cX2_draw 83 = .ok (.aload_n 0, 1) := dk_42 (dk_at dksX2_draw_3 17 rfl rfl)
theorem dX2_draw_84 : decode cX2_draw 84 = .ok (.dup, 1) := dk_89 (dk_at dksX2_draw_3 18 rfl rfl)
theorem dX2_draw_85 : decode cX2_draw 85 = .ok (.getfield 30, 3) := dk_180 0 30 (dk_at dksX2_draw_3 19 rfl rfl)
theorem dX2_draw_88 : decode cX2_draw 88 = .ok (.iconst 1, 1) := dk_4 (dk_at dksX2_draw_3 22 rfl rfl)
theorem dX2_draw_89 : decode cX2_draw 89 = .ok (.iadd, 1) := dk_96 (dk_at dksX2_draw_3 23 rfl rfl)
theorem dX2_draw_90 : decode cX2_draw 90 = .ok (.putfield 30, 3) := dk_181 0 30 (dk_at dksX2_draw_4 0 rfl rfl)
theorem dX2_draw_93 : decode cX2_draw 93 = .ok (.aload_n 0, 1) := dk_42 (dk_at dksX2_draw_4 3 rfl rfl)
theorem dX2_draw_94 : decode cX2_draw 94 = .ok (.invokevirtual 95, 3) := dk_182 0 95 (dk_at dksX2_draw_4 4 rfl rfl)
theorem dX2_draw_97 : decode cX2_draw 97 = .ok (.ireturn, 1) := dk_172 (dk_at dksX2_draw_4 7 rfl rfl)
abbrev cX2_over : ByteArray := prog_7_method_6_code
def yX2_over : MethodName := ⟨RX2, "over", "()V"⟩
def dkwX2_over_6 : List UInt8 := [92, 46, 4, 96, 79, 132, 1, 1, 167, 255, 222, 177]
abbrev dktX2_over_6 : List UInt8 := dkwX2_over_6 ++ []
def dkwX2_over_5 : List UInt8 := [180, 0, 3, 180, 0, 37, 180, 0, 67, 162, 0, 26, 42, 180, 0, 27, 42, 180, 0, 15, 27, 46, 50, 27]
abbrev dktX2_over_5 : List UInt8 := dkwX2_over_5 ++ dktX2_over_6
def dkwX2_over_4 : List UInt8 := [180, 0, 79, 27, 46, 160, 0, 7, 4, 167, 0, 4, 5, 79, 132, 1, 1, 167, 255, 149, 3, 60, 27, 42]
abbrev dktX2_over_4 : List UInt8 := dkwX2_over_4 ++ dktX2_over_5
def dkwX2_over_3 : List UInt8 := [180, 0, 15, 42, 180, 0, 3, 180, 0, 37, 180, 0, 76, 27, 46, 46, 42, 180, 0, 3, 180, 0, 37]
abbrev dktX2_over_3 : List UInt8 := dkwX2_over_3 ++ dktX2_over_4
def dkwX2_over_2 : List UInt8 := [167, 0, 4, 3, 61, 42, 180, 0, 22, 27, 28, 154, 0, 12, 42, 180, 0, 22, 27, 46, 167, 0, 40, 42]
abbrev dktX2_over_2 : List UInt8 := dkwX2_over_2 ++ dktX2_over_3
def dkwX2_over_1 : List UInt8 := [154, 0, 26, 42, 180, 0, 3, 180, 0, 37, 180, 0, 73, 27, 46, 42, 180, 0, 30, 160, 0, 7, 4]
abbrev dktX2_over_1 : List UInt8 := dkwX2_over_1 ++ dktX2_over_2
def dkwX2_over_0 : List UInt8 := [3, 60, 27, 42, 180, 0, 3, 180, 0, 37, 180, 0, 70, 162, 0, 99, 42, 180, 0, 22, 27, 46]
abbrev dktX2_over_0 : List UInt8 := dkwX2_over_0 ++ dktX2_over_1
theorem dksX2_over_0 : cX2_over.data.toList.drop 0 = dktX2_over_0 := by decide +kernel
theorem dksX2_over_1 : cX2_over.data.toList.drop 22 = dktX2_over_1 := dk_seg dksX2_over_0 22 rfl rfl
theorem dksX2_over_2 : cX2_over.data.toList.drop 45 = dktX2_over_2 := dk_seg dksX2_over_1 23 rfl rfl
theorem dksX2_over_3 : cX2_over.data.toList.drop 69 = dktX2_over_3 := dk_seg dksX2_over_2 24 rfl rfl
theorem dksX2_over_4 : cX2_over.data.toList.drop 92 = dktX2_over_4 := dk_seg dksX2_over_3 23 rfl rfl
theorem dksX2_over_5 : cX2_over.data.toList.drop 116 = dktX2_over_5 := dk_seg dksX2_over_4 24 rfl rfl
theorem dksX2_over_6 : cX2_over.data.toList.drop 140 = dktX2_over_6 := dk_seg dksX2_over_5 24 rfl rfl
theorem dX2_over_0 : decode cX2_over 0 = .ok (.iconst 0, 1) := dk_3 (dk_at dksX2_over_0 0 rfl rfl)
theorem dX2_over_1 : decode cX2_over 1 = .ok (.istore_n 1, 1) := dk_60 (dk_at dksX2_over_0 1 rfl rfl)
theorem dX2_over_2 : decode cX2_over 2 = .ok (.iload_n 1, 1) := dk_27 (dk_at dksX2_over_0 2 rfl rfl)
theorem dX2_over_3 : decode cX2_over 3 = .ok (.aload_n 0, 1) := dk_42 (dk_at dksX2_over_0 3 rfl rfl)
theorem dX2_over_4 : decode cX2_over 4 = .ok (.getfield 3, 3) := dk_180 0 3 (dk_at dksX2_over_0 4 rfl rfl)
theorem dX2_over_7 : decode cX2_over 7 = .ok (.getfield 37, 3) := dk_180 0 37 (dk_at dksX2_over_0 7 rfl rfl)
theorem dX2_over_10 : decode cX2_over 10 = .ok (.getfield 70, 3) := dk_180 0 70 (dk_at dksX2_over_0 10 rfl rfl)
theorem dX2_over_13 : decode cX2_over 13 = .ok (.if_icmp .ge 99, 3) := dk_162 0 99 (dk_at dksX2_over_0 13 rfl rfl)
theorem dX2_over_16 : decode cX2_over 16 = .ok (.aload_n 0, 1) := dk_42 (dk_at dksX2_over_0 16 rfl rfl)
theorem dX2_over_17 : decode cX2_over 17 = .ok (.getfield 22, 3) := dk_180 0 22 (dk_at dksX2_over_0 17 rfl rfl)
theorem dX2_over_20 : decode cX2_over 20 = .ok (.iload_n 1, 1) := dk_27 (dk_at dksX2_over_0 20 rfl rfl)
theorem dX2_over_21 : decode cX2_over 21 = .ok (.iaload, 1) := dk_46 (dk_at dksX2_over_0 21 rfl rfl)
theorem dX2_over_22 : decode cX2_over 22 = .ok (.ifCond .ne 26, 3) := dk_154 0 26 (dk_at dksX2_over_1 0 rfl rfl)
theorem dX2_over_25 : decode cX2_over 25 = .ok (.aload_n 0, 1) := dk_42 (dk_at dksX2_over_1 3 rfl rfl)
theorem dX2_over_26 : decode cX2_over 26 = .ok (.getfield 3, 3) := dk_180 0 3 (dk_at dksX2_over_1 4 rfl rfl)
theorem dX2_over_29 : decode cX2_over 29 = .ok (.getfield 37, 3) := dk_180 0 37 (dk_at dksX2_over_1 7 rfl rfl)
theorem dX2_over_32 : decode cX2_over 32 = .ok (.getfield 73, 3) := dk_180 0 73 (dk_at dksX2_over_1 10 rfl rfl)
theorem dX2_over_35 : decode cX2_over 35 = .ok (.iload_n 1, 1) := dk_27 (dk_at dksX2_over_1 13 rfl rfl)
theorem dX2_over_36 : decode cX2_over 36 = .ok (.iaload, 1) := dk_46 (dk_at dksX2_over_1 14 rfl rfl)
theorem dX2_over_37 : decode cX2_over 37 = .ok (.aload_n 0, 1) := dk_42 (dk_at dksX2_over_1 15 rfl rfl)
theorem dX2_over_38 : decode cX2_over 38 = .ok (.getfield 30, 3) := dk_180 0 30 (dk_at dksX2_over_1 16 rfl rfl)
theorem dX2_over_41 : decode cX2_over 41 = .ok (.if_icmp .ne 7, 3) := dk_160 0 7 (dk_at dksX2_over_1 19 rfl rfl)
theorem dX2_over_44 : decode cX2_over 44 = .ok (.iconst 1, 1) := dk_4 (dk_at dksX2_over_1 22 rfl rfl)
theorem dX2_over_45 : decode cX2_over 45 = .ok (.goto 4, 3) := dk_167 0 4 (dk_at dksX2_over_2 0 rfl rfl)
theorem dX2_over_48 : decode cX2_over 48 = .ok (.iconst 0, 1) := dk_3 (dk_at dksX2_over_2 3 rfl rfl)
theorem dX2_over_49 : decode cX2_over 49 = .ok (.istore_n 2, 1) := dk_61 (dk_at dksX2_over_2 4 rfl rfl)
theorem dX2_over_50 : decode cX2_over 50 = .ok (.aload_n 0, 1) := dk_42 (dk_at dksX2_over_2 5 rfl rfl)
theorem dX2_over_51 : decode cX2_over 51 = .ok (.getfield 22, 3) := dk_180 0 22 (dk_at dksX2_over_2 6 rfl rfl)
theorem dX2_over_54 : decode cX2_over 54 = .ok (.iload_n 1, 1) := dk_27 (dk_at dksX2_over_2 9 rfl rfl)
theorem dX2_over_55 : decode cX2_over 55 = .ok (.iload_n 2, 1) := dk_28 (dk_at dksX2_over_2 10 rfl rfl)
theorem dX2_over_56 : decode cX2_over 56 = .ok (.ifCond .ne 12, 3) := dk_154 0 12 (dk_at dksX2_over_2 11 rfl rfl)
theorem dX2_over_59 : decode cX2_over 59 = .ok (.aload_n 0, 1) := dk_42 (dk_at dksX2_over_2 14 rfl rfl)
theorem dX2_over_60 : decode cX2_over 60 = .ok (.getfield 22, 3) := dk_180 0 22 (dk_at dksX2_over_2 15 rfl rfl)
theorem dX2_over_63 : decode cX2_over 63 = .ok (.iload_n 1, 1) := dk_27 (dk_at dksX2_over_2 18 rfl rfl)
theorem dX2_over_64 : decode cX2_over 64 = .ok (.iaload, 1) := dk_46 (dk_at dksX2_over_2 19 rfl rfl)
theorem dX2_over_65 : decode cX2_over 65 = .ok (.goto 40, 3) := dk_167 0 40 (dk_at dksX2_over_2 20 rfl rfl)
theorem dX2_over_68 : decode cX2_over 68 = .ok (.aload_n 0, 1) := dk_42 (dk_at dksX2_over_2 23 rfl rfl)
theorem dX2_over_69 : decode cX2_over 69 = .ok (.getfield 15, 3) := dk_180 0 15 (dk_at dksX2_over_3 0 rfl rfl)
theorem dX2_over_72 : decode cX2_over 72 = .ok (.aload_n 0, 1) := dk_42 (dk_at dksX2_over_3 3 rfl rfl)
theorem dX2_over_73 : decode cX2_over 73 = .ok (.getfield 3, 3) := dk_180 0 3 (dk_at dksX2_over_3 4 rfl rfl)
theorem dX2_over_76 : decode cX2_over 76 = .ok (.getfield 37, 3) := dk_180 0 37 (dk_at dksX2_over_3 7 rfl rfl)
theorem dX2_over_79 : decode cX2_over 79 = .ok (.getfield 76, 3) := dk_180 0 76 (dk_at dksX2_over_3 10 rfl rfl)
theorem dX2_over_82 : decode cX2_over 82 = .ok (.iload_n 1, 1) := dk_27 (dk_at dksX2_over_3 13 rfl rfl)
theorem dX2_over_83 : decode cX2_over 83 = .ok (.iaload, 1) := dk_46 (dk_at dksX2_over_3 14 rfl rfl)
theorem dX2_over_84 : decode cX2_over 84 = .ok (.iaload, 1) := dk_46 (dk_at dksX2_over_3 15 rfl rfl)
theorem dX2_over_85 : decode cX2_over 85 = .ok (.aload_n 0, 1) := dk_42 (dk_at dksX2_over_3 16 rfl rfl)
theorem dX2_over_86 : decode cX2_over 86 = .ok (.getfield 3, 3) := dk_180 0 3 (dk_at dksX2_over_3 17 rfl rfl)
theorem dX2_over_89 : decode cX2_over 89 = .ok (.getfield 37, 3) := dk_180 0 37 (dk_at dksX2_over_3 20 rfl rfl)
theorem dX2_over_92 : decode cX2_over 92 = .ok (.getfield 79, 3) := dk_180 0 79 (dk_at dksX2_over_4 0 rfl rfl)
theorem dX2_over_95 : decode cX2_over 95 = .ok (.iload_n 1, 1) := dk_27 (dk_at dksX2_over_4 3 rfl rfl)
theorem dX2_over_96 : decode cX2_over 96 = .ok (.iaload, 1) := dk_46 (dk_at dksX2_over_4 4 rfl rfl)
theorem dX2_over_97 : decode cX2_over 97 = .ok (.if_icmp .ne 7, 3) := dk_160 0 7 (dk_at dksX2_over_4 5 rfl rfl)
theorem dX2_over_100 : decode cX2_over 100 = .ok (.iconst 1, 1) := dk_4 (dk_at dksX2_over_4 8 rfl rfl)
theorem dX2_over_101 : decode cX2_over 101 = .ok (.goto 4, 3) := dk_167 0 4 (dk_at dksX2_over_4 9 rfl rfl)
theorem dX2_over_104 : decode cX2_over 104 = .ok (.iconst 2, 1) := dk_5 (dk_at dksX2_over_4 12 rfl rfl)
theorem dX2_over_105 : decode cX2_over 105 = .ok (.iastore, 1) := dk_79 (dk_at dksX2_over_4 13 rfl rfl)
theorem dX2_over_106 : decode cX2_over 106 = .ok (.iinc 1 1, 3) := dk_132 1 1 (dk_at dksX2_over_4 14 rfl rfl)
theorem dX2_over_109 : decode cX2_over 109 = .ok (.goto (-107), 3) := dk_167 255 149 (dk_at dksX2_over_4 17 rfl rfl)
theorem dX2_over_112 : decode cX2_over 112 = .ok (.iconst 0, 1) := dk_3 (dk_at dksX2_over_4 20 rfl rfl)
theorem dX2_over_113 : decode cX2_over 113 = .ok (.istore_n 1, 1) := dk_60 (dk_at dksX2_over_4 21 rfl rfl)
theorem dX2_over_114 : decode cX2_over 114 = .ok (.iload_n 1, 1) := dk_27 (dk_at dksX2_over_4 22 rfl rfl)
theorem dX2_over_115 : decode cX2_over 115 = .ok (.aload_n 0, 1) := dk_42 (dk_at dksX2_over_4 23 rfl rfl)
theorem dX2_over_116 : decode cX2_over 116 = .ok (.getfield 3, 3) := dk_180 0 3 (dk_at dksX2_over_5 0 rfl rfl)
theorem dX2_over_119 : decode cX2_over 119 = .ok (.getfield 37, 3) := dk_180 0 37 (dk_at dksX2_over_5 3 rfl rfl)
theorem dX2_over_122 : decode cX2_over 122 = .ok (.getfield 67, 3) := dk_180 0 67 (dk_at dksX2_over_5 6 rfl rfl)
theorem dX2_over_125 : decode cX2_over 125 = .ok (.if_icmp .ge 26, 3) := dk_162 0 26 (dk_at dksX2_over_5 9 rfl rfl)
theorem dX2_over_128 : decode cX2_over 128 = .ok (.aload_n 0, 1) := dk_42 (dk_at dksX2_over_5 12 rfl rfl)
theorem dX2_over_129 : decode cX2_over 129 = .ok (.getfield 27, 3) := dk_180 0 27 (dk_at dksX2_over_5 13 rfl rfl)
theorem dX2_over_132 : decode cX2_over 132 = .ok (.aload_n 0, 1) := dk_42 (dk_at dksX2_over_5 16 rfl rfl)
theorem dX2_over_133 : decode cX2_over 133 = .ok (.getfield 15, 3) := dk_180 0 15 (dk_at dksX2_over_5 17 rfl rfl)
theorem dX2_over_136 : decode cX2_over 136 = .ok (.iload_n 1, 1) := dk_27 (dk_at dksX2_over_5 20 rfl rfl)
theorem dX2_over_137 : decode cX2_over 137 = .ok (.iaload, 1) := dk_46 (dk_at dksX2_over_5 21 rfl rfl)
theorem dX2_over_138 : decode cX2_over 138 = .ok (.aaload, 1) := dk_50 (dk_at dksX2_over_5 22 rfl rfl)
theorem dX2_over_139 : decode cX2_over 139 = .ok (.iload_n 1, 1) := dk_27 (dk_at dksX2_over_5 23 rfl rfl)
theorem dX2_over_140 : decode cX2_over 140 = .ok (.dup2, 1) := dk_92 (dk_at dksX2_over_6 0 rfl rfl)
theorem dX2_over_141 : decode cX2_over 141 = .ok (.iaload, 1) := dk_46 (dk_at dksX2_over_6 1 rfl rfl)
theorem dX2_over_142 : decode cX2_over 142 = .ok (.iconst 1, 1) := dk_4 (dk_at dksX2_over_6 2 rfl rfl)
theorem dX2_over_143 : decode cX2_over 143 = .ok (.iadd, 1) := dk_96 (dk_at dksX2_over_6 3 rfl rfl)
theorem dX2_over_144 : decode cX2_over 144 = .ok (.iastore, 1) := dk_79 (dk_at dksX2_over_6 4 rfl rfl)
theorem dX2_over_145 : decode cX2_over 145 = .ok (.iinc 1 1, 3) := dk_132 1 1 (dk_at dksX2_over_6 5 rfl rfl)
theorem dX2_over_148 : decode cX2_over 148 = .ok (.goto (-34), 3) := dk_167 255 222 (dk_at dksX2_over_6 8 rfl rfl)
theorem dX2_over_151 : decode cX2_over 151 = .ok (.return_, 1) := dk_177 (dk_at dksX2_over_6 11 rfl rfl)
abbrev cX2_cutAll : ByteArray := prog_7_method_5_code
def yX2_cutAll : MethodName := ⟨RX2, "cutAll", "()I"⟩
def dkwX2_cutAll_3 : List UInt8 := [184, 0, 49, 79, 132, 2, 1, 167, 255, 187, 42, 89, 180, 0, 34, 27, 96, 181, 0, 34, 27, 172]
abbrev dktX2_cutAll_3 : List UInt8 := dkwX2_cutAll_3 ++ []
def dkwX2_cutAll_2 : List UInt8 := [164, 0, 7, 4, 167, 0, 4, 3, 96, 60, 42, 180, 0, 19, 28, 42, 180, 0, 19, 28, 46, 29]
abbrev dktX2_cutAll_2 : List UInt8 := dkwX2_cutAll_2 ++ dktX2_cutAll_3
def dkwX2_cutAll_1 : List UInt8 := [180, 0, 37, 180, 0, 46, 42, 180, 0, 15, 28, 46, 46, 62, 27, 29, 42, 180, 0, 19, 28, 46]
abbrev dktX2_cutAll_1 : List UInt8 := dkwX2_cutAll_1 ++ dktX2_cutAll_2
def dkwX2_cutAll_0 : List UInt8 := [3, 60, 3, 61, 28, 42, 180, 0, 3, 180, 0, 37, 180, 0, 67, 162, 0, 61, 42, 180, 0, 3]
abbrev dktX2_cutAll_0 : List UInt8 := dkwX2_cutAll_0 ++ dktX2_cutAll_1
theorem dksX2_cutAll_0 : cX2_cutAll.data.toList.drop 0 = dktX2_cutAll_0 := by decide +kernel
theorem dksX2_cutAll_1 : cX2_cutAll.data.toList.drop 22 = dktX2_cutAll_1 := dk_seg dksX2_cutAll_0 22 rfl rfl
theorem dksX2_cutAll_2 : cX2_cutAll.data.toList.drop 44 = dktX2_cutAll_2 := dk_seg dksX2_cutAll_1 22 rfl rfl
theorem dksX2_cutAll_3 : cX2_cutAll.data.toList.drop 66 = dktX2_cutAll_3 := dk_seg dksX2_cutAll_2 22 rfl rfl
theorem dX2_cutAll_0 : decode cX2_cutAll 0 = .ok (.iconst 0, 1) := dk_3 (dk_at dksX2_cutAll_0 0 rfl rfl)
theorem dX2_cutAll_1 : decode cX2_cutAll 1 = .ok (.istore_n 1, 1) := dk_60 (dk_at dksX2_cutAll_0 1 rfl rfl)
theorem dX2_cutAll_2 : decode cX2_cutAll 2 = .ok (.iconst 0, 1) := dk_3 (dk_at dksX2_cutAll_0 2 rfl rfl)
theorem dX2_cutAll_3 : decode cX2_cutAll 3 = .ok (.istore_n 2, 1) := dk_61 (dk_at dksX2_cutAll_0 3 rfl rfl)
theorem dX2_cutAll_4 : decode cX2_cutAll 4 = .ok (.iload_n 2, 1) := dk_28 (dk_at dksX2_cutAll_0 4 rfl rfl)
theorem dX2_cutAll_5 : decode cX2_cutAll 5 = .ok (.aload_n 0, 1) := dk_42 (dk_at dksX2_cutAll_0 5 rfl rfl)
theorem dX2_cutAll_6 : decode cX2_cutAll 6 = .ok (.getfield 3, 3) := dk_180 0 3 (dk_at dksX2_cutAll_0 6 rfl rfl)
theorem dX2_cutAll_9 : decode cX2_cutAll 9 = .ok (.getfield 37, 3) := dk_180 0 37 (dk_at dksX2_cutAll_0 9 rfl rfl)
theorem dX2_cutAll_12 : decode cX2_cutAll 12 = .ok (.getfield 67, 3) := dk_180 0 67 (dk_at dksX2_cutAll_0 12 rfl rfl)
theorem dX2_cutAll_15 : decode cX2_cutAll 15 = .ok (.if_icmp .ge 61, 3) := dk_162 0 61 (dk_at dksX2_cutAll_0 15 rfl rfl)
theorem dX2_cutAll_18 : decode cX2_cutAll 18 = .ok (.aload_n 0, 1) := dk_42 (dk_at dksX2_cutAll_0 18 rfl rfl)
theorem dX2_cutAll_19 : decode cX2_cutAll 19 = .ok (.getfield 3, 3) := dk_180 0 3 (dk_at dksX2_cutAll_0 19 rfl rfl)
theorem dX2_cutAll_22 : decode cX2_cutAll 22 = .ok (.getfield 37, 3) := dk_180 0 37 (dk_at dksX2_cutAll_1 0 rfl rfl)
theorem dX2_cutAll_25 : decode cX2_cutAll 25 = .ok (.getfield 46, 3) := dk_180 0 46 (dk_at dksX2_cutAll_1 3 rfl rfl)
theorem dX2_cutAll_28 : decode cX2_cutAll 28 = .ok (.aload_n 0, 1) := dk_42 (dk_at dksX2_cutAll_1 6 rfl rfl)
theorem dX2_cutAll_29 : decode cX2_cutAll 29 = .ok (.getfield 15, 3) := dk_180 0 15 (dk_at dksX2_cutAll_1 7 rfl rfl)
theorem dX2_cutAll_32 : decode cX2_cutAll 32 = .ok (.iload_n 2, 1) := dk_28 (dk_at dksX2_cutAll_1 10 rfl rfl)
theorem dX2_cutAll_33 : decode cX2_cutAll 33 = .ok (.iaload, 1) := dk_46 (dk_at dksX2_cutAll_1 11 rfl rfl)
theorem dX2_cutAll_34 : decode cX2_cutAll 34 = .ok (.iaload, 1) := dk_46 (dk_at dksX2_cutAll_1 12 rfl rfl)
theorem dX2_cutAll_35 : decode cX2_cutAll 35 = .ok (.istore_n 3, 1) := dk_62 (dk_at dksX2_cutAll_1 13 rfl rfl)
theorem dX2_cutAll_36 : decode cX2_cutAll 36 = .ok (.iload_n 1, 1) := dk_27 (dk_at dksX2_cutAll_1 14 rfl rfl)
theorem dX2_cutAll_37 : decode cX2_cutAll 37 = .ok (.iload_n 3, 1) := dk_29 (dk_at dksX2_cutAll_1 15 rfl rfl)
theorem dX2_cutAll_38 : decode cX2_cutAll 38 = .ok (.aload_n 0, 1) := dk_42 (dk_at dksX2_cutAll_1 16 rfl rfl)
theorem dX2_cutAll_39 : decode cX2_cutAll 39 = .ok (.getfield 19, 3) := dk_180 0 19 (dk_at dksX2_cutAll_1 17 rfl rfl)
theorem dX2_cutAll_42 : decode cX2_cutAll 42 = .ok (.iload_n 2, 1) := dk_28 (dk_at dksX2_cutAll_1 20 rfl rfl)
theorem dX2_cutAll_43 : decode cX2_cutAll 43 = .ok (.iaload, 1) := dk_46 (dk_at dksX2_cutAll_1 21 rfl rfl)
theorem dX2_cutAll_44 : decode cX2_cutAll 44 = .ok (.if_icmp .le 7, 3) := dk_164 0 7 (dk_at dksX2_cutAll_2 0 rfl rfl)
theorem dX2_cutAll_47 : decode cX2_cutAll 47 = .ok (.iconst 1, 1) := dk_4 (dk_at dksX2_cutAll_2 3 rfl rfl)
theorem dX2_cutAll_48 : decode cX2_cutAll 48 = .ok (.goto 4, 3) := dk_167 0 4 (dk_at dksX2_cutAll_2 4 rfl rfl)
theorem dX2_cutAll_51 : decode cX2_cutAll 51 = .ok (.iconst 0, 1) := dk_3 (dk_at dksX2_cutAll_2 7 rfl rfl)
theorem dX2_cutAll_52 : decode cX2_cutAll 52 = .ok (.iadd, 1) := dk_96 (dk_at dksX2_cutAll_2 8 rfl rfl)
theorem dX2_cutAll_53 : decode cX2_cutAll 53 = .ok (.istore_n 1, 1) := dk_60 (dk_at dksX2_cutAll_2 9 rfl rfl)
theorem dX2_cutAll_54 : decode cX2_cutAll 54 = .ok (.aload_n 0, 1) := dk_42 (dk_at dksX2_cutAll_2 10 rfl rfl)
theorem dX2_cutAll_55 : decode cX2_cutAll 55 = .ok (.getfield 19, 3) := dk_180 0 19 (dk_at dksX2_cutAll_2 11 rfl rfl)
theorem dX2_cutAll_58 : decode cX2_cutAll 58 = .ok (.iload_n 2, 1) := dk_28 (dk_at dksX2_cutAll_2 14 rfl rfl)
theorem dX2_cutAll_59 : decode cX2_cutAll 59 = .ok (.aload_n 0, 1) := dk_42 (dk_at dksX2_cutAll_2 15 rfl rfl)
theorem dX2_cutAll_60 : decode cX2_cutAll 60 = .ok (.getfield 19, 3) := dk_180 0 19 (dk_at dksX2_cutAll_2 16 rfl rfl)
theorem dX2_cutAll_63 : decode cX2_cutAll 63 = .ok (.iload_n 2, 1) := dk_28 (dk_at dksX2_cutAll_2 19 rfl rfl)
theorem dX2_cutAll_64 : decode cX2_cutAll 64 = .ok (.iaload, 1) := dk_46 (dk_at dksX2_cutAll_2 20 rfl rfl)
theorem dX2_cutAll_65 : decode cX2_cutAll 65 = .ok (.iload_n 3, 1) := dk_29 (dk_at dksX2_cutAll_2 21 rfl rfl)
theorem dX2_cutAll_66 : decode cX2_cutAll 66 = .ok (.invokestatic 49, 3) := dk_184 0 49 (dk_at dksX2_cutAll_3 0 rfl rfl)
theorem dX2_cutAll_69 : decode cX2_cutAll 69 = .ok (.iastore, 1) := dk_79 (dk_at dksX2_cutAll_3 3 rfl rfl)
theorem dX2_cutAll_70 : decode cX2_cutAll 70 = .ok (.iinc 2 1, 3) := dk_132 2 1 (dk_at dksX2_cutAll_3 4 rfl rfl)
theorem dX2_cutAll_73 : decode cX2_cutAll 73 = .ok (.goto (-69), 3) := dk_167 255 187 (dk_at dksX2_cutAll_3 7 rfl rfl)
theorem dX2_cutAll_76 : decode cX2_cutAll 76 = .ok (.aload_n 0, 1) := dk_42 (dk_at dksX2_cutAll_3 10 rfl rfl)
theorem dX2_cutAll_77 : decode cX2_cutAll 77 = .ok (.dup, 1) := dk_89 (dk_at dksX2_cutAll_3 11 rfl rfl)
theorem dX2_cutAll_78 : decode cX2_cutAll 78 = .ok (.getfield 34, 3) := dk_180 0 34 (dk_at dksX2_cutAll_3 12 rfl rfl)
theorem dX2_cutAll_81 : decode cX2_cutAll 81 = .ok (.iload_n 1, 1) := dk_27 (dk_at dksX2_cutAll_3 15 rfl rfl)
theorem dX2_cutAll_82 : decode cX2_cutAll 82 = .ok (.iadd, 1) := dk_96 (dk_at dksX2_cutAll_3 16 rfl rfl)
theorem dX2_cutAll_83 : decode cX2_cutAll 83 = .ok (.putfield 34, 3) := dk_181 0 34 (dk_at dksX2_cutAll_3 17 rfl rfl)
theorem dX2_cutAll_86 : decode cX2_cutAll 86 = .ok (.iload_n 1, 1) := dk_27 (dk_at dksX2_cutAll_3 20 rfl rfl)
theorem dX2_cutAll_87 : decode cX2_cutAll 87 = .ok (.ireturn, 1) := dk_172 (dk_at dksX2_cutAll_3 21 rfl rfl)
abbrev cX2_trade : ByteArray := prog_7_method_8_code
def yX2_trade : MethodName := ⟨RX2, "trade", "(II)I"⟩
def dkwX2_trade_1 : List UInt8 := [29, 79, 42, 182, 0, 95, 172]
abbrev dktX2_trade_1 : List UInt8 := dkwX2_trade_1 ++ []
def dkwX2_trade_0 : List UInt8 := [42, 180, 0, 15, 27, 46, 62, 42, 180, 0, 15, 27, 42, 180, 0, 15, 28, 46, 79, 42, 180, 0, 15, 28]
abbrev dktX2_trade_0 : List UInt8 := dkwX2_trade_0 ++ dktX2_trade_1
theorem dksX2_trade_0 : cX2_trade.data.toList.drop 0 = dktX2_trade_0 := by decide +kernel
theorem dksX2_trade_1 : cX2_trade.data.toList.drop 24 = dktX2_trade_1 := dk_seg dksX2_trade_0 24 rfl rfl
theorem dX2_trade_0 : decode cX2_trade 0 = .ok (.aload_n 0, 1) := dk_42 (dk_at dksX2_trade_0 0 rfl rfl)
theorem dX2_trade_1 : decode cX2_trade 1 = .ok (.getfield 15, 3) := dk_180 0 15 (dk_at dksX2_trade_0 1 rfl rfl)
theorem dX2_trade_4 : decode cX2_trade 4 = .ok (.iload_n 1, 1) := dk_27 (dk_at dksX2_trade_0 4 rfl rfl)
theorem dX2_trade_5 : decode cX2_trade 5 = .ok (.iaload, 1) := dk_46 (dk_at dksX2_trade_0 5 rfl rfl)
theorem dX2_trade_6 : decode cX2_trade 6 = .ok (.istore_n 3, 1) := dk_62 (dk_at dksX2_trade_0 6 rfl rfl)
theorem dX2_trade_7 : decode cX2_trade 7 = .ok (.aload_n 0, 1) := dk_42 (dk_at dksX2_trade_0 7 rfl rfl)
theorem dX2_trade_8 : decode cX2_trade 8 = .ok (.getfield 15, 3) := dk_180 0 15 (dk_at dksX2_trade_0 8 rfl rfl)
theorem dX2_trade_11 : decode cX2_trade 11 = .ok (.iload_n 1, 1) := dk_27 (dk_at dksX2_trade_0 11 rfl rfl)
theorem dX2_trade_12 : decode cX2_trade 12 = .ok (.aload_n 0, 1) := dk_42 (dk_at dksX2_trade_0 12 rfl rfl)
theorem dX2_trade_13 : decode cX2_trade 13 = .ok (.getfield 15, 3) := dk_180 0 15 (dk_at dksX2_trade_0 13 rfl rfl)
theorem dX2_trade_16 : decode cX2_trade 16 = .ok (.iload_n 2, 1) := dk_28 (dk_at dksX2_trade_0 16 rfl rfl)
theorem dX2_trade_17 : decode cX2_trade 17 = .ok (.iaload, 1) := dk_46 (dk_at dksX2_trade_0 17 rfl rfl)
theorem dX2_trade_18 : decode cX2_trade 18 = .ok (.iastore, 1) := dk_79 (dk_at dksX2_trade_0 18 rfl rfl)
theorem dX2_trade_19 : decode cX2_trade 19 = .ok (.aload_n 0, 1) := dk_42 (dk_at dksX2_trade_0 19 rfl rfl)
theorem dX2_trade_20 : decode cX2_trade 20 = .ok (.getfield 15, 3) := dk_180 0 15 (dk_at dksX2_trade_0 20 rfl rfl)
theorem dX2_trade_23 : decode cX2_trade 23 = .ok (.iload_n 2, 1) := dk_28 (dk_at dksX2_trade_0 23 rfl rfl)
theorem dX2_trade_24 : decode cX2_trade 24 = .ok (.iload_n 3, 1) := dk_29 (dk_at dksX2_trade_1 0 rfl rfl)
theorem dX2_trade_25 : decode cX2_trade 25 = .ok (.iastore, 1) := dk_79 (dk_at dksX2_trade_1 1 rfl rfl)
theorem dX2_trade_26 : decode cX2_trade 26 = .ok (.aload_n 0, 1) := dk_42 (dk_at dksX2_trade_1 2 rfl rfl)
theorem dX2_trade_27 : decode cX2_trade 27 = .ok (.invokevirtual 95, 3) := dk_182 0 95 (dk_at dksX2_trade_1 3 rfl rfl)
theorem dX2_trade_30 : decode cX2_trade 30 = .ok (.ireturn, 1) := dk_172 (dk_at dksX2_trade_1 6 rfl rfl)
theorem q41 : (Jvm.Cond.initialized "BellLots$Plain") ∈ lw_all := lw_g (lw_at lw_m1 3 rfl) rfl
theorem q79 : (Jvm.Cond.fieldLinkNest "BellLots$Plain" (41 : Nat) "BellLots$Book" "tower" "[I" "BellLots") ∈ lw_tbl := lw_at lw_m1 41 rfl
theorem q83 : (Jvm.Cond.fieldLinkNest "BellLots$Plain" (46 : Nat) "BellLots$Book" "weight" "[I" "BellLots") ∈ lw_tbl := lw_at lw_m1 45 rfl
theorem q89 : (Jvm.Cond.fieldLinkNest "BellLots$Plain" (102 : Nat) "BellLots$Book" "note" "[I" "BellLots") ∈ lw_tbl := lw_at lw_m1 51 rfl
theorem q93 : (Jvm.Cond.fieldLinkNest "BellLots$Plain" (99 : Nat) "BellLots$Book" "toll" "[[I" "BellLots") ∈ lw_tbl := lw_at lw_m1 55 rfl
theorem q97 : (Jvm.Cond.fieldLinkNest "BellLots$Plain" (79 : Nat) "BellLots$Book" "oathBell" "[I" "BellLots") ∈ lw_tbl := lw_at lw_m1 59 rfl
theorem q101 : (Jvm.Cond.fieldLinkNest "BellLots$Plain" (76 : Nat) "BellLots$Book" "oathTown" "[I" "BellLots") ∈ lw_tbl := lw_at lw_m1 63 rfl
theorem q105 : (Jvm.Cond.fieldLinkNest "BellLots$Plain" (73 : Nat) "BellLots$Book" "oathTerm" "[I" "BellLots") ∈ lw_tbl := lw_at lw_m1 67 rfl
theorem q109 : (Jvm.Cond.fieldLinkNest "BellLots$Plain" (67 : Nat) "BellLots$Book" "towns" "I" "BellLots") ∈ lw_tbl := lw_at lw_m1 71 rfl
theorem q111 : (Jvm.Cond.fieldLinkNest "BellLots$Plain" (70 : Nat) "BellLots$Book" "oaths" "I" "BellLots") ∈ lw_tbl := lw_at lw_m1 73 rfl
theorem q141 : (Jvm.Cond.instantiable "BellLots$Plain" (7 : Nat)) ∈ lw_all := lw_g (lw_at lw_m1 103 rfl) rfl
theorem q143 : (Jvm.Cond.instanceMethod ({ cls := "BellLots$Plain", name := "<init>", desc := "(LBellLots;)V" } : Jvm.MethodName)) ∈ lw_all := lw_g (lw_at lw_m1 105 rfl) rfl
theorem q144 : (Jvm.Cond.code ({ cls := "BellLots$Plain", name := "<init>", desc := "(LBellLots;)V" } : Jvm.MethodName) prog_7_method_1_code (2 : Nat) (Option.none : Option Jvm.ClassFile.FieldType)) ∈ lw_all := lw_g (lw_at lw_m1 106 rfl) rfl
theorem q145 : (Jvm.Cond.methodLink "BellLots$Plain" (9 : Nat) ({ cls := "java/lang/Object", name := "<init>", desc := "()V" } : Jvm.MethodName)) ∈ lw_all := lw_g (lw_at lw_m1 107 rfl) rfl
theorem q146 : (Jvm.Cond.classLink "BellLots$Plain" (25 : Nat) "[[I") ∈ lw_all := lw_g (lw_at lw_m1 108 rfl) rfl
theorem q147 : (Jvm.Cond.fieldLink "BellLots$Plain" (30 : Nat) "BellLots$Plain" "term" "I") ∈ lw_all := lw_g (lw_at lw_m1 109 rfl) rfl
theorem q150 : (Jvm.Cond.fieldLink "BellLots$Plain" (34 : Nat) "BellLots$Plain" "cuts" "I") ∈ lw_all := lw_g (lw_at lw_m1 112 rfl) rfl
theorem q152 : (Jvm.Cond.fieldLink "BellLots$Plain" (15 : Nat) "BellLots$Plain" "bell" "[I") ∈ lw_all := lw_g (lw_at lw_m1 114 rfl) rfl
theorem q154 : (Jvm.Cond.fieldLink "BellLots$Plain" (19 : Nat) "BellLots$Plain" "bears" "[I") ∈ lw_all := lw_g (lw_at lw_m1 116 rfl) rfl
theorem q157 : (Jvm.Cond.fieldLink "BellLots$Plain" (22 : Nat) "BellLots$Plain" "oath" "[I") ∈ lw_all := lw_g (lw_at lw_m1 119 rfl) rfl
theorem q159 : (Jvm.Cond.fieldLink "BellLots$Plain" (27 : Nat) "BellLots$Plain" "strokes" "[[I") ∈ lw_all := lw_g (lw_at lw_m1 121 rfl) rfl
theorem q161 : (Jvm.Cond.fieldLink "BellLots$Plain" (3 : Nat) "BellLots$Plain" "this$0" "LBellLots;") ∈ lw_all := lw_g (lw_at lw_m1 123 rfl) rfl
theorem q162 : (Jvm.Cond.lays "BellLots$Plain" "BellLots$Plain" "term" "I") ∈ lw_all := lw_g (lw_at lw_m1 124 rfl) rfl
theorem q163 : (Jvm.Cond.soleField "BellLots$Plain" "term") ∈ lw_all := lw_g (lw_at lw_m1 125 rfl) rfl
theorem q164 : (Jvm.Cond.lays "BellLots$Plain" "BellLots$Plain" "cuts" "I") ∈ lw_all := lw_g (lw_at lw_m1 126 rfl) rfl
theorem q165 : (Jvm.Cond.soleField "BellLots$Plain" "cuts") ∈ lw_all := lw_g (lw_at lw_m1 127 rfl) rfl
theorem q166 : (Jvm.Cond.laysFinal "BellLots$Plain" "BellLots$Plain" "bell" "[I") ∈ lw_all := lw_g (lw_at lw_m1 128 rfl) rfl
theorem q167 : (Jvm.Cond.soleField "BellLots$Plain" "bell") ∈ lw_all := lw_g (lw_at lw_m1 129 rfl) rfl
theorem q168 : (Jvm.Cond.laysFinal "BellLots$Plain" "BellLots$Plain" "bears" "[I") ∈ lw_all := lw_g (lw_at lw_m1 130 rfl) rfl
theorem q169 : (Jvm.Cond.soleField "BellLots$Plain" "bears") ∈ lw_all := lw_g (lw_at lw_m1 131 rfl) rfl
theorem q170 : (Jvm.Cond.laysFinal "BellLots$Plain" "BellLots$Plain" "oath" "[I") ∈ lw_all := lw_g (lw_at lw_m1 132 rfl) rfl
theorem q171 : (Jvm.Cond.soleField "BellLots$Plain" "oath") ∈ lw_all := lw_g (lw_at lw_m1 133 rfl) rfl
theorem q172 : (Jvm.Cond.laysFinal "BellLots$Plain" "BellLots$Plain" "strokes" "[[I") ∈ lw_all := lw_g (lw_at lw_m1 134 rfl) rfl
theorem q173 : (Jvm.Cond.soleField "BellLots$Plain" "strokes") ∈ lw_all := lw_g (lw_at lw_m1 135 rfl) rfl
theorem q174 : (Jvm.Cond.laysFinal "BellLots$Plain" "BellLots$Plain" "this$0" "LBellLots;") ∈ lw_all := lw_g (lw_at lw_m1 136 rfl) rfl
theorem q175 : (Jvm.Cond.soleField "BellLots$Plain" "this$0") ∈ lw_all := lw_g (lw_at lw_m1 137 rfl) rfl
theorem q176 : (Jvm.Cond.superclass "BellLots$Plain" "java/lang/Object") ∈ lw_all := lw_g (lw_at lw_m1 138 rfl) rfl
theorem q253 : (Jvm.Cond.instanceMethod ({ cls := "BellLots$Plain", name := "begin", desc := "()V" } : Jvm.MethodName)) ∈ lw_all := lw_g (lw_at lw_m1 215 rfl) rfl
theorem q254 : (Jvm.Cond.selects "BellLots$Plain" ({ cls := "BellLots$Plain", name := "begin", desc := "()V" } : Jvm.MethodName) ({ cls := "BellLots$Plain", name := "begin", desc := "()V" } : Jvm.MethodName)) ∈ lw_all := lw_g (lw_at lw_m1 216 rfl) rfl
theorem q255 : (Jvm.Cond.code ({ cls := "BellLots$Plain", name := "begin", desc := "()V" } : Jvm.MethodName) prog_7_method_2_code (2 : Nat) (Option.none : Option Jvm.ClassFile.FieldType)) ∈ lw_all := lw_g (lw_at lw_m1 217 rfl) rfl
theorem q256 : (Jvm.Cond.methodLink "BellLots$Plain" (49 : Nat) ({ cls := "java/lang/Math", name := "max", desc := "(II)I" } : Jvm.MethodName)) ∈ lw_all := lw_g (lw_at lw_m1 218 rfl) rfl
theorem q259 : (Jvm.Cond.methodLink "BellLots$Plain" (55 : Nat) ({ cls := "java/util/Arrays", name := "fill", desc := "([II)V" } : Jvm.MethodName)) ∈ lw_all := lw_g (lw_at lw_m1 221 rfl) rfl
theorem q265 : (Jvm.Cond.fieldLinkNest "BellLots$Plain" (37 : Nat) "BellLots" "book" "LBellLots$Book;" "BellLots") ∈ lw_tbl := lw_at lw_m1 227 rfl
theorem q267 : (Jvm.Cond.fieldLinkNest "BellLots$Plain" (89 : Nat) "BellLots" "moved" "[I" "BellLots") ∈ lw_tbl := lw_at lw_m1 229 rfl
theorem q269 : (Jvm.Cond.fieldLinkNest "BellLots$Plain" (92 : Nat) "BellLots" "lot" "[I" "BellLots") ∈ lw_tbl := lw_at lw_m1 231 rfl
theorem q583 : (Jvm.Cond.instanceMethod ({ cls := "BellLots$Plain", name := "where", desc := "(I)I" } : Jvm.MethodName)) ∈ lw_all := lw_g (lw_at lw_m3 65 rfl) rfl
theorem q584 : (Jvm.Cond.selects "BellLots$Plain" ({ cls := "BellLots$Plain", name := "where", desc := "(I)I" } : Jvm.MethodName) ({ cls := "BellLots$Plain", name := "where", desc := "(I)I" } : Jvm.MethodName)) ∈ lw_all := lw_g (lw_at lw_m3 66 rfl) rfl
theorem q585 : (Jvm.Cond.code ({ cls := "BellLots$Plain", name := "where", desc := "(I)I" } : Jvm.MethodName) prog_7_method_4_code (3 : Nat) (Option.some Jvm.ClassFile.FieldType.int)) ∈ lw_all := lw_g (lw_at lw_m3 67 rfl) rfl
theorem q587 : (Jvm.Cond.instanceMethod ({ cls := "BellLots$Plain", name := "dumb", desc := "()I" } : Jvm.MethodName)) ∈ lw_all := lw_g (lw_at lw_m3 69 rfl) rfl
theorem q588 : (Jvm.Cond.selects "BellLots$Plain" ({ cls := "BellLots$Plain", name := "dumb", desc := "()I" } : Jvm.MethodName) ({ cls := "BellLots$Plain", name := "dumb", desc := "()I" } : Jvm.MethodName)) ∈ lw_all := lw_g (lw_at lw_m3 70 rfl) rfl
theorem q589 : (Jvm.Cond.code ({ cls := "BellLots$Plain", name := "dumb", desc := "()I" } : Jvm.MethodName) prog_7_method_10_code (4 : Nat) (Option.some Jvm.ClassFile.FieldType.int)) ∈ lw_all := lw_g (lw_at lw_m3 71 rfl) rfl
theorem q612 : (Jvm.Cond.instanceMethod ({ cls := "BellLots$Plain", name := "homes", desc := "()I" } : Jvm.MethodName)) ∈ lw_all := lw_g (lw_at lw_m3 94 rfl) rfl
theorem q613 : (Jvm.Cond.selects "BellLots$Plain" ({ cls := "BellLots$Plain", name := "homes", desc := "()I" } : Jvm.MethodName) ({ cls := "BellLots$Plain", name := "homes", desc := "()I" } : Jvm.MethodName)) ∈ lw_all := lw_g (lw_at lw_m3 95 rfl) rfl
theorem q614 : (Jvm.Cond.code ({ cls := "BellLots$Plain", name := "homes", desc := "()I" } : Jvm.MethodName) prog_7_method_9_code (3 : Nat) (Option.some Jvm.ClassFile.FieldType.int)) ∈ lw_all := lw_g (lw_at lw_m3 96 rfl) rfl
theorem q630 : (Jvm.Cond.instanceMethod ({ cls := "BellLots$Plain", name := "copyOf", desc := "(LBellLots$Plain;)V" } : Jvm.MethodName)) ∈ lw_all := lw_g (lw_at lw_m3 112 rfl) rfl
theorem q631 : (Jvm.Cond.selects "BellLots$Plain" ({ cls := "BellLots$Plain", name := "copyOf", desc := "(LBellLots$Plain;)V" } : Jvm.MethodName) ({ cls := "BellLots$Plain", name := "copyOf", desc := "(LBellLots$Plain;)V" } : Jvm.MethodName)) ∈ lw_all := lw_g (lw_at lw_m3 113 rfl) rfl
theorem q632 : (Jvm.Cond.code ({ cls := "BellLots$Plain", name := "copyOf", desc := "(LBellLots$Plain;)V" } : Jvm.MethodName) prog_7_method_3_code (3 : Nat) (Option.none : Option Jvm.ClassFile.FieldType)) ∈ lw_all := lw_g (lw_at lw_m3 114 rfl) rfl
theorem q633 : (Jvm.Cond.methodLink "BellLots$Plain" (61 : Nat) ({ cls := "java/lang/System", name := "arraycopy", desc := "(Ljava/lang/Object;ILjava/lang/Object;II)V" } : Jvm.MethodName)) ∈ lw_all := lw_g (lw_at lw_m3 115 rfl) rfl
theorem q635 : (Jvm.Cond.instanceMethod ({ cls := "BellLots$Plain", name := "draw", desc := "(I)I" } : Jvm.MethodName)) ∈ lw_all := lw_g (lw_at lw_m3 117 rfl) rfl
theorem q636 : (Jvm.Cond.selects "BellLots$Plain" ({ cls := "BellLots$Plain", name := "draw", desc := "(I)I" } : Jvm.MethodName) ({ cls := "BellLots$Plain", name := "draw", desc := "(I)I" } : Jvm.MethodName)) ∈ lw_all := lw_g (lw_at lw_m3 118 rfl) rfl
theorem q637 : (Jvm.Cond.code ({ cls := "BellLots$Plain", name := "draw", desc := "(I)I" } : Jvm.MethodName) prog_7_method_7_code (3 : Nat) (Option.some Jvm.ClassFile.FieldType.int)) ∈ lw_all := lw_g (lw_at lw_m3 119 rfl) rfl
theorem q638 : (Jvm.Cond.methodLink "BellLots$Plain" (82 : Nat) ({ cls := "BellLots$Plain", name := "over", desc := "()V" } : Jvm.MethodName)) ∈ lw_all := lw_g (lw_at lw_m3 120 rfl) rfl
theorem q639 : (Jvm.Cond.privateMethod ({ cls := "BellLots$Plain", name := "over", desc := "()V" } : Jvm.MethodName)) ∈ lw_tbl := lw_at lw_m3 121 rfl
theorem q640 : (Jvm.Cond.instanceMethod ({ cls := "BellLots$Plain", name := "over", desc := "()V" } : Jvm.MethodName)) ∈ lw_all := lw_g (lw_at lw_m3 122 rfl) rfl
theorem q641 : (Jvm.Cond.code ({ cls := "BellLots$Plain", name := "over", desc := "()V" } : Jvm.MethodName) prog_7_method_6_code (3 : Nat) (Option.none : Option Jvm.ClassFile.FieldType)) ∈ lw_all := lw_g (lw_at lw_m3 123 rfl) rfl
theorem q642 : (Jvm.Cond.methodLinkNest "BellLots$Plain" (85 : Nat) ({ cls := "BellLots", name := "lotOf", desc := "(I)V" } : Jvm.MethodName) "BellLots") ∈ lw_tbl := lw_at lw_m3 124 rfl
theorem q649 : (Jvm.Cond.methodLink "BellLots$Plain" (95 : Nat) ({ cls := "BellLots$Plain", name := "cutAll", desc := "()I" } : Jvm.MethodName)) ∈ lw_all := lw_g (lw_at lw_m3 131 rfl) rfl
theorem q650 : (Jvm.Cond.privateMethod ({ cls := "BellLots$Plain", name := "cutAll", desc := "()I" } : Jvm.MethodName)) ∈ lw_tbl := lw_at lw_m3 132 rfl
theorem q651 : (Jvm.Cond.instanceMethod ({ cls := "BellLots$Plain", name := "cutAll", desc := "()I" } : Jvm.MethodName)) ∈ lw_all := lw_g (lw_at lw_m3 133 rfl) rfl
theorem q652 : (Jvm.Cond.code ({ cls := "BellLots$Plain", name := "cutAll", desc := "()I" } : Jvm.MethodName) prog_7_method_5_code (4 : Nat) (Option.some Jvm.ClassFile.FieldType.int)) ∈ lw_all := lw_g (lw_at lw_m3 134 rfl) rfl
theorem q658 : (Jvm.Cond.instanceMethod ({ cls := "BellLots$Plain", name := "trade", desc := "(II)I" } : Jvm.MethodName)) ∈ lw_all := lw_g (lw_at lw_m3 140 rfl) rfl
theorem q659 : (Jvm.Cond.selects "BellLots$Plain" ({ cls := "BellLots$Plain", name := "trade", desc := "(II)I" } : Jvm.MethodName) ({ cls := "BellLots$Plain", name := "trade", desc := "(II)I" } : Jvm.MethodName)) ∈ lw_all := lw_g (lw_at lw_m3 141 rfl) rfl
theorem q660 : (Jvm.Cond.code ({ cls := "BellLots$Plain", name := "trade", desc := "(II)I" } : Jvm.MethodName) prog_7_method_8_code (4 : Nat) (Option.some Jvm.ClassFile.FieldType.int)) ∈ lw_all := lw_g (lw_at lw_m3 142 rfl) rfl
theorem in_X2 : ∀ w ∈ wsX20, w ∈ lw_all := lw_in wsX20 [162, 164, 166, 168, 170, 172, 174] (by decide +kernel) (by decide +kernel)
/-! BellLots$Bell -/
set_option maxRecDepth 100000
def RX3 : String := "BellLots$Bell"
def TX3 : u_T := fun k => match k with
  | _ => ("BellLots$Bell", "this$0", "LBellLots;", true)
def tyX3 : Nat → FieldType := fun k => match k with
  | _ => .object "BellLots"
abbrev wsX30 : List Cond := u_ws RX3 TX3 1
theorem nmX3 : ∀ a, a < 1 → ∀ b, b < 1 → a ≠ b → (TX3 a).2.1 ≠ (TX3 b).2.1 := by decide +kernel
theorem tyX3_ok : ∀ k, k < 1 → parseFieldDescriptor (TX3 k).2.2.1 = some (tyX3 k) := by decide +kernel
abbrev cX3_init : ByteArray := prog_2_method_1_code
def yX3_init : MethodName := ⟨RX3, "<init>", "(LBellLots;)V"⟩
def dkwX3_init_0 : List UInt8 := [42, 43, 181, 0, 1, 42, 183, 0, 7, 177]
abbrev dktX3_init_0 : List UInt8 := dkwX3_init_0 ++ []
theorem dksX3_init_0 : cX3_init.data.toList.drop 0 = dktX3_init_0 := by decide +kernel
theorem dX3_init_0 : decode cX3_init 0 = .ok (.aload_n 0, 1) := dk_42 (dk_at dksX3_init_0 0 rfl rfl)
theorem dX3_init_1 : decode cX3_init 1 = .ok (.aload_n 1, 1) := dk_43 (dk_at dksX3_init_0 1 rfl rfl)
theorem dX3_init_2 : decode cX3_init 2 = .ok (.putfield 1, 3) := dk_181 0 1 (dk_at dksX3_init_0 2 rfl rfl)
theorem dX3_init_5 : decode cX3_init 5 = .ok (.aload_n 0, 1) := dk_42 (dk_at dksX3_init_0 5 rfl rfl)
theorem dX3_init_6 : decode cX3_init 6 = .ok (.invokespecial 7, 3) := dk_183 0 7 (dk_at dksX3_init_0 6 rfl rfl)
theorem dX3_init_9 : decode cX3_init 9 = .ok (.return_, 1) := dk_177 (dk_at dksX3_init_0 9 rfl rfl)
abbrev cX3_rate : ByteArray := prog_2_method_2_code
def yX3_rate : MethodName := ⟨RX3, "rate", "(I)I"⟩
def dkwX3_rate_1 : List UInt8 := [46, 172]
abbrev dktX3_rate_1 : List UInt8 := dkwX3_rate_1 ++ []
def dkwX3_rate_0 : List UInt8 := [42, 180, 0, 1, 89, 180, 0, 13, 10, 97, 181, 0, 13, 42, 180, 0, 1, 180, 0, 19, 180, 0, 23, 27]
abbrev dktX3_rate_0 : List UInt8 := dkwX3_rate_0 ++ dktX3_rate_1
theorem dksX3_rate_0 : cX3_rate.data.toList.drop 0 = dktX3_rate_0 := by decide +kernel
theorem dksX3_rate_1 : cX3_rate.data.toList.drop 24 = dktX3_rate_1 := dk_seg dksX3_rate_0 24 rfl rfl
theorem dX3_rate_0 : decode cX3_rate 0 = .ok (.aload_n 0, 1) := dk_42 (dk_at dksX3_rate_0 0 rfl rfl)
theorem dX3_rate_1 : decode cX3_rate 1 = .ok (.getfield 1, 3) := dk_180 0 1 (dk_at dksX3_rate_0 1 rfl rfl)
theorem dX3_rate_4 : decode cX3_rate 4 = .ok (.dup, 1) := dk_89 (dk_at dksX3_rate_0 4 rfl rfl)
theorem dX3_rate_5 : decode cX3_rate 5 = .ok (.getfield 13, 3) := dk_180 0 13 (dk_at dksX3_rate_0 5 rfl rfl)
theorem dX3_rate_8 : decode cX3_rate 8 = .ok (.lconst 1, 1) := dk_10 (dk_at dksX3_rate_0 8 rfl rfl)
theorem dX3_rate_9 : decode cX3_rate 9 = .ok (.ladd, 1) := dk_97 (dk_at dksX3_rate_0 9 rfl rfl)
theorem dX3_rate_10 : decode cX3_rate 10 = .ok (.putfield 13, 3) := dk_181 0 13 (dk_at dksX3_rate_0 10 rfl rfl)
theorem dX3_rate_13 : decode cX3_rate 13 = .ok (.aload_n 0, 1) := dk_42 (dk_at dksX3_rate_0 13 rfl rfl)
theorem dX3_rate_14 : decode cX3_rate 14 = .ok (.getfield 1, 3) := dk_180 0 1 (dk_at dksX3_rate_0 14 rfl rfl)
theorem dX3_rate_17 : decode cX3_rate 17 = .ok (.getfield 19, 3) := dk_180 0 19 (dk_at dksX3_rate_0 17 rfl rfl)
theorem dX3_rate_20 : decode cX3_rate 20 = .ok (.getfield 23, 3) := dk_180 0 23 (dk_at dksX3_rate_0 20 rfl rfl)
theorem dX3_rate_23 : decode cX3_rate 23 = .ok (.iload_n 1, 1) := dk_27 (dk_at dksX3_rate_0 23 rfl rfl)
theorem dX3_rate_24 : decode cX3_rate 24 = .ok (.iaload, 1) := dk_46 (dk_at dksX3_rate_1 0 rfl rfl)
theorem dX3_rate_25 : decode cX3_rate 25 = .ok (.ireturn, 1) := dk_172 (dk_at dksX3_rate_1 1 rfl rfl)
theorem q42 : (Jvm.Cond.initialized "BellLots$Bell") ∈ lw_all := lw_g (lw_at lw_m1 4 rfl) rfl
theorem q82 : (Jvm.Cond.fieldLinkNest "BellLots$Bell" (23 : Nat) "BellLots$Book" "weight" "[I" "BellLots") ∈ lw_tbl := lw_at lw_m1 44 rfl
theorem q184 : (Jvm.Cond.instantiable "BellLots$Bell" (1 : Nat)) ∈ lw_all := lw_g (lw_at lw_m1 146 rfl) rfl
theorem q186 : (Jvm.Cond.instanceMethod ({ cls := "BellLots$Bell", name := "<init>", desc := "(LBellLots;)V" } : Jvm.MethodName)) ∈ lw_all := lw_g (lw_at lw_m1 148 rfl) rfl
theorem q187 : (Jvm.Cond.code ({ cls := "BellLots$Bell", name := "<init>", desc := "(LBellLots;)V" } : Jvm.MethodName) prog_2_method_1_code (2 : Nat) (Option.none : Option Jvm.ClassFile.FieldType)) ∈ lw_all := lw_g (lw_at lw_m1 149 rfl) rfl
theorem q188 : (Jvm.Cond.methodLink "BellLots$Bell" (7 : Nat) ({ cls := "java/lang/Object", name := "<init>", desc := "()V" } : Jvm.MethodName)) ∈ lw_all := lw_g (lw_at lw_m1 150 rfl) rfl
theorem q189 : (Jvm.Cond.fieldLink "BellLots$Bell" (1 : Nat) "BellLots$Bell" "this$0" "LBellLots;") ∈ lw_all := lw_g (lw_at lw_m1 151 rfl) rfl
theorem q190 : (Jvm.Cond.laysFinal "BellLots$Bell" "BellLots$Bell" "this$0" "LBellLots;") ∈ lw_all := lw_g (lw_at lw_m1 152 rfl) rfl
theorem q191 : (Jvm.Cond.soleField "BellLots$Bell" "this$0") ∈ lw_all := lw_g (lw_at lw_m1 153 rfl) rfl
theorem q192 : (Jvm.Cond.superclass "BellLots$Bell" "java/lang/Object") ∈ lw_all := lw_g (lw_at lw_m1 154 rfl) rfl
theorem q263 : (Jvm.Cond.fieldLinkNest "BellLots$Bell" (19 : Nat) "BellLots" "book" "LBellLots$Book;" "BellLots") ∈ lw_tbl := lw_at lw_m1 225 rfl
theorem q288 : (Jvm.Cond.fieldLinkNest "BellLots$Bell" (13 : Nat) "BellLots" "trace" "J" "BellLots") ∈ lw_tbl := lw_at lw_m2 10 rfl
theorem q738 : (Jvm.Cond.instanceMethod ({ cls := "BellLots$Bell", name := "rate", desc := "(I)I" } : Jvm.MethodName)) ∈ lw_all := lw_g (lw_at lw_m3 220 rfl) rfl
theorem q739 : (Jvm.Cond.selects "BellLots$Bell" ({ cls := "BellLots$Bell", name := "rate", desc := "(I)I" } : Jvm.MethodName) ({ cls := "BellLots$Bell", name := "rate", desc := "(I)I" } : Jvm.MethodName)) ∈ lw_all := lw_g (lw_at lw_m3 221 rfl) rfl
theorem q740 : (Jvm.Cond.sameMethod "BellLots$Bell" "BellLots$Bell" "rate" "(I)I") ∈ lw_all := lw_g (lw_at lw_m3 222 rfl) rfl
theorem q767 : (Jvm.Cond.code ({ cls := "BellLots$Bell", name := "rate", desc := "(I)I" } : Jvm.MethodName) prog_2_method_2_code (2 : Nat) (Option.some Jvm.ClassFile.FieldType.int)) ∈ lw_all := lw_g (lw_at lw_m4 9 rfl) rfl
theorem in_X3 : ∀ w ∈ wsX30, w ∈ lw_all := lw_in wsX30 [190] (by decide +kernel) (by decide +kernel)
/-! BellLots$Great -/
set_option maxRecDepth 100000
def RX4 : String := "BellLots$Great"
def TX4 : u_T := fun k => match k with
  | 0 => ("BellLots$Bell", "this$0", "LBellLots;", true)
  | _ => ("BellLots$Great", "this$0", "LBellLots;", true)
def tyX4 : Nat → FieldType := fun k => match k with
  | 0 => .object "BellLots"
  | _ => .object "BellLots"
abbrev wsX40 : List Cond := u_ws RX4 TX4 2
-- two fields of one name: no nmX4
theorem tyX4_ok : ∀ k, k < 2 → parseFieldDescriptor (TX4 k).2.2.1 = some (tyX4 k) := by decide +kernel
abbrev cX4_init : ByteArray := prog_6_method_1_code
def yX4_init : MethodName := ⟨RX4, "<init>", "(LBellLots;)V"⟩
def dkwX4_init_0 : List UInt8 := [42, 43, 181, 0, 1, 42, 43, 183, 0, 7, 177]
abbrev dktX4_init_0 : List UInt8 := dkwX4_init_0 ++ []
theorem dksX4_init_0 : cX4_init.data.toList.drop 0 = dktX4_init_0 := by decide +kernel
theorem dX4_init_0 : decode cX4_init 0 = .ok (.aload_n 0, 1) := dk_42 (dk_at dksX4_init_0 0 rfl rfl)
theorem dX4_init_1 : decode cX4_init 1 = .ok (.aload_n 1, 1) := dk_43 (dk_at dksX4_init_0 1 rfl rfl)
theorem dX4_init_2 : decode cX4_init 2 = .ok (.putfield 1, 3) := dk_181 0 1 (dk_at dksX4_init_0 2 rfl rfl)
theorem dX4_init_5 : decode cX4_init 5 = .ok (.aload_n 0, 1) := dk_42 (dk_at dksX4_init_0 5 rfl rfl)
theorem dX4_init_6 : decode cX4_init 6 = .ok (.aload_n 1, 1) := dk_43 (dk_at dksX4_init_0 6 rfl rfl)
theorem dX4_init_7 : decode cX4_init 7 = .ok (.invokespecial 7, 3) := dk_183 0 7 (dk_at dksX4_init_0 7 rfl rfl)
theorem dX4_init_10 : decode cX4_init 10 = .ok (.return_, 1) := dk_177 (dk_at dksX4_init_0 10 rfl rfl)
abbrev cX4_rate : ByteArray := prog_6_method_2_code
def yX4_rate : MethodName := ⟨RX4, "rate", "(I)I"⟩
def dkwX4_rate_1 : List UInt8 := [180, 0, 25, 180, 0, 29, 27, 46, 96, 172]
abbrev dktX4_rate_1 : List UInt8 := dkwX4_rate_1 ++ []
def dkwX4_rate_0 : List UInt8 := [42, 180, 0, 1, 89, 180, 0, 13, 20, 0, 19, 97, 181, 0, 13, 42, 27, 183, 0, 21, 42, 180, 0, 1]
abbrev dktX4_rate_0 : List UInt8 := dkwX4_rate_0 ++ dktX4_rate_1
theorem dksX4_rate_0 : cX4_rate.data.toList.drop 0 = dktX4_rate_0 := by decide +kernel
theorem dksX4_rate_1 : cX4_rate.data.toList.drop 24 = dktX4_rate_1 := dk_seg dksX4_rate_0 24 rfl rfl
theorem dX4_rate_0 : decode cX4_rate 0 = .ok (.aload_n 0, 1) := dk_42 (dk_at dksX4_rate_0 0 rfl rfl)
theorem dX4_rate_1 : decode cX4_rate 1 = .ok (.getfield 1, 3) := dk_180 0 1 (dk_at dksX4_rate_0 1 rfl rfl)
theorem dX4_rate_4 : decode cX4_rate 4 = .ok (.dup, 1) := dk_89 (dk_at dksX4_rate_0 4 rfl rfl)
theorem dX4_rate_5 : decode cX4_rate 5 = .ok (.getfield 13, 3) := dk_180 0 13 (dk_at dksX4_rate_0 5 rfl rfl)
theorem dX4_rate_8 : decode cX4_rate 8 = .ok (.ldc2_w 19, 3) := dk_20 0 19 (dk_at dksX4_rate_0 8 rfl rfl)
theorem dX4_rate_11 : decode cX4_rate 11 = .ok (.ladd, 1) := dk_97 (dk_at dksX4_rate_0 11 rfl rfl)
theorem dX4_rate_12 : decode cX4_rate 12 = .ok (.putfield 13, 3) := dk_181 0 13 (dk_at dksX4_rate_0 12 rfl rfl)
theorem dX4_rate_15 : decode cX4_rate 15 = .ok (.aload_n 0, 1) := dk_42 (dk_at dksX4_rate_0 15 rfl rfl)
theorem dX4_rate_16 : decode cX4_rate 16 = .ok (.iload_n 1, 1) := dk_27 (dk_at dksX4_rate_0 16 rfl rfl)
theorem dX4_rate_17 : decode cX4_rate 17 = .ok (.invokespecial 21, 3) := dk_183 0 21 (dk_at dksX4_rate_0 17 rfl rfl)
theorem dX4_rate_20 : decode cX4_rate 20 = .ok (.aload_n 0, 1) := dk_42 (dk_at dksX4_rate_0 20 rfl rfl)
theorem dX4_rate_21 : decode cX4_rate 21 = .ok (.getfield 1, 3) := dk_180 0 1 (dk_at dksX4_rate_0 21 rfl rfl)
theorem dX4_rate_24 : decode cX4_rate 24 = .ok (.getfield 25, 3) := dk_180 0 25 (dk_at dksX4_rate_1 0 rfl rfl)
theorem dX4_rate_27 : decode cX4_rate 27 = .ok (.getfield 29, 3) := dk_180 0 29 (dk_at dksX4_rate_1 3 rfl rfl)
theorem dX4_rate_30 : decode cX4_rate 30 = .ok (.iload_n 1, 1) := dk_27 (dk_at dksX4_rate_1 6 rfl rfl)
theorem dX4_rate_31 : decode cX4_rate 31 = .ok (.iaload, 1) := dk_46 (dk_at dksX4_rate_1 7 rfl rfl)
theorem dX4_rate_32 : decode cX4_rate 32 = .ok (.iadd, 1) := dk_96 (dk_at dksX4_rate_1 8 rfl rfl)
theorem dX4_rate_33 : decode cX4_rate 33 = .ok (.ireturn, 1) := dk_172 (dk_at dksX4_rate_1 9 rfl rfl)
theorem q43 : (Jvm.Cond.initialized "BellLots$Great") ∈ lw_all := lw_g (lw_at lw_m1 5 rfl) rfl
theorem q87 : (Jvm.Cond.fieldLinkNest "BellLots$Great" (29 : Nat) "BellLots$Book" "note" "[I" "BellLots") ∈ lw_tbl := lw_at lw_m1 49 rfl
theorem q196 : (Jvm.Cond.instantiable "BellLots$Great" (2 : Nat)) ∈ lw_all := lw_g (lw_at lw_m1 158 rfl) rfl
theorem q198 : (Jvm.Cond.instanceMethod ({ cls := "BellLots$Great", name := "<init>", desc := "(LBellLots;)V" } : Jvm.MethodName)) ∈ lw_all := lw_g (lw_at lw_m1 160 rfl) rfl
theorem q199 : (Jvm.Cond.code ({ cls := "BellLots$Great", name := "<init>", desc := "(LBellLots;)V" } : Jvm.MethodName) prog_6_method_1_code (2 : Nat) (Option.none : Option Jvm.ClassFile.FieldType)) ∈ lw_all := lw_g (lw_at lw_m1 161 rfl) rfl
theorem q200 : (Jvm.Cond.methodLinkNest "BellLots$Great" (7 : Nat) ({ cls := "BellLots$Bell", name := "<init>", desc := "(LBellLots;)V" } : Jvm.MethodName) "BellLots") ∈ lw_tbl := lw_at lw_m1 162 rfl
theorem q201 : (Jvm.Cond.fieldLink "BellLots$Great" (1 : Nat) "BellLots$Great" "this$0" "LBellLots;") ∈ lw_all := lw_g (lw_at lw_m1 163 rfl) rfl
theorem q202 : (Jvm.Cond.laysFinal "BellLots$Great" "BellLots$Great" "this$0" "LBellLots;") ∈ lw_all := lw_g (lw_at lw_m1 164 rfl) rfl
theorem q203 : (Jvm.Cond.soleField "BellLots$Great" "this$0") ∈ lw_all := lw_g (lw_at lw_m1 165 rfl) rfl
theorem q204 : (Jvm.Cond.laysFinal "BellLots$Great" "BellLots$Bell" "this$0" "LBellLots;") ∈ lw_all := lw_g (lw_at lw_m1 166 rfl) rfl
theorem q205 : (Jvm.Cond.superclass "BellLots$Great" "BellLots$Bell") ∈ lw_all := lw_g (lw_at lw_m1 167 rfl) rfl
theorem q264 : (Jvm.Cond.fieldLinkNest "BellLots$Great" (25 : Nat) "BellLots" "book" "LBellLots$Book;" "BellLots") ∈ lw_tbl := lw_at lw_m1 226 rfl
theorem q291 : (Jvm.Cond.fieldLinkNest "BellLots$Great" (13 : Nat) "BellLots" "trace" "J" "BellLots") ∈ lw_tbl := lw_at lw_m2 13 rfl
theorem q752 : (Jvm.Cond.selects "BellLots$Great" ({ cls := "BellLots$Bell", name := "rate", desc := "(I)I" } : Jvm.MethodName) ({ cls := "BellLots$Great", name := "rate", desc := "(I)I" } : Jvm.MethodName)) ∈ lw_all := lw_g (lw_at lw_m3 234 rfl) rfl
theorem q753 : (Jvm.Cond.instanceMethod ({ cls := "BellLots$Great", name := "rate", desc := "(I)I" } : Jvm.MethodName)) ∈ lw_all := lw_g (lw_at lw_m3 235 rfl) rfl
theorem q754 : (Jvm.Cond.code ({ cls := "BellLots$Great", name := "rate", desc := "(I)I" } : Jvm.MethodName) prog_6_method_2_code (2 : Nat) (Option.some Jvm.ClassFile.FieldType.int)) ∈ lw_all := lw_g (lw_at lw_m3 236 rfl) rfl
theorem q755 : (Jvm.Cond.constantLong "BellLots$Great" (19 : Nat) (10 : Int64)) ∈ lw_all := lw_g (lw_at lw_m3 237 rfl) rfl
theorem q756 : (Jvm.Cond.methodLink "BellLots$Great" (21 : Nat) ({ cls := "BellLots$Bell", name := "rate", desc := "(I)I" } : Jvm.MethodName)) ∈ lw_all := lw_g (lw_at lw_m3 238 rfl) rfl
theorem q1101 : (Jvm.Cond.sameMethod "BellLots$Great" "BellLots$Great" "rate" "(I)I") ∈ lw_all := lw_g (lw_at lw_m5 103 rfl) rfl
theorem q1102 : (Jvm.Cond.castable "BellLots$Great" "BellLots$Bell") ∈ lw_tbl := lw_at lw_m5 104 rfl
theorem in_X4 : ∀ w ∈ wsX40, w ∈ lw_all := lw_in wsX40 [204, 202] (by decide +kernel) (by decide +kernel)
/-! BellLots$Cracked -/
set_option maxRecDepth 100000
def RX5 : String := "BellLots$Cracked"
def TX5 : u_T := fun k => match k with
  | 0 => ("BellLots$Bell", "this$0", "LBellLots;", true)
  | _ => ("BellLots$Cracked", "this$0", "LBellLots;", true)
def tyX5 : Nat → FieldType := fun k => match k with
  | 0 => .object "BellLots"
  | _ => .object "BellLots"
abbrev wsX50 : List Cond := u_ws RX5 TX5 2
-- two fields of one name: no nmX5
theorem tyX5_ok : ∀ k, k < 2 → parseFieldDescriptor (TX5 k).2.2.1 = some (tyX5 k) := by decide +kernel
abbrev cX5_init : ByteArray := prog_5_method_1_code
def yX5_init : MethodName := ⟨RX5, "<init>", "(LBellLots;)V"⟩
def dkwX5_init_0 : List UInt8 := [42, 43, 181, 0, 1, 42, 43, 183, 0, 7, 177]
abbrev dktX5_init_0 : List UInt8 := dkwX5_init_0 ++ []
theorem dksX5_init_0 : cX5_init.data.toList.drop 0 = dktX5_init_0 := by decide +kernel
theorem dX5_init_0 : decode cX5_init 0 = .ok (.aload_n 0, 1) := dk_42 (dk_at dksX5_init_0 0 rfl rfl)
theorem dX5_init_1 : decode cX5_init 1 = .ok (.aload_n 1, 1) := dk_43 (dk_at dksX5_init_0 1 rfl rfl)
theorem dX5_init_2 : decode cX5_init 2 = .ok (.putfield 1, 3) := dk_181 0 1 (dk_at dksX5_init_0 2 rfl rfl)
theorem dX5_init_5 : decode cX5_init 5 = .ok (.aload_n 0, 1) := dk_42 (dk_at dksX5_init_0 5 rfl rfl)
theorem dX5_init_6 : decode cX5_init 6 = .ok (.aload_n 1, 1) := dk_43 (dk_at dksX5_init_0 6 rfl rfl)
theorem dX5_init_7 : decode cX5_init 7 = .ok (.invokespecial 7, 3) := dk_183 0 7 (dk_at dksX5_init_0 7 rfl rfl)
theorem dX5_init_10 : decode cX5_init 10 = .ok (.return_, 1) := dk_177 (dk_at dksX5_init_0 10 rfl rfl)
abbrev cX5_rate : ByteArray := prog_5_method_2_code
def yX5_rate : MethodName := ⟨RX5, "rate", "(I)I"⟩
def dkwX5_rate_1 : List UInt8 := [180, 0, 25, 180, 0, 29, 42, 180, 0, 1, 180, 0, 25, 27, 182, 0, 35, 46, 100, 172]
abbrev dktX5_rate_1 : List UInt8 := dkwX5_rate_1 ++ []
def dkwX5_rate_0 : List UInt8 := [42, 180, 0, 1, 89, 180, 0, 13, 20, 0, 19, 97, 181, 0, 13, 42, 27, 183, 0, 21, 42, 180, 0, 1]
abbrev dktX5_rate_0 : List UInt8 := dkwX5_rate_0 ++ dktX5_rate_1
theorem dksX5_rate_0 : cX5_rate.data.toList.drop 0 = dktX5_rate_0 := by decide +kernel
theorem dksX5_rate_1 : cX5_rate.data.toList.drop 24 = dktX5_rate_1 := dk_seg dksX5_rate_0 24 rfl rfl
theorem dX5_rate_0 : decode cX5_rate 0 = .ok (.aload_n 0, 1) := dk_42 (dk_at dksX5_rate_0 0 rfl rfl)
theorem dX5_rate_1 : decode cX5_rate 1 = .ok (.getfield 1, 3) := dk_180 0 1 (dk_at dksX5_rate_0 1 rfl rfl)
theorem dX5_rate_4 : decode cX5_rate 4 = .ok (.dup, 1) := dk_89 (dk_at dksX5_rate_0 4 rfl rfl)
theorem dX5_rate_5 : decode cX5_rate 5 = .ok (.getfield 13, 3) := dk_180 0 13 (dk_at dksX5_rate_0 5 rfl rfl)
theorem dX5_rate_8 : decode cX5_rate 8 = .ok (.ldc2_w 19, 3) := dk_20 0 19 (dk_at dksX5_rate_0 8 rfl rfl)
theorem dX5_rate_11 : decode cX5_rate 11 = .ok (.ladd, 1) := dk_97 (dk_at dksX5_rate_0 11 rfl rfl)
theorem dX5_rate_12 : decode cX5_rate 12 = .ok (.putfield 13, 3) := dk_181 0 13 (dk_at dksX5_rate_0 12 rfl rfl)
theorem dX5_rate_15 : decode cX5_rate 15 = .ok (.aload_n 0, 1) := dk_42 (dk_at dksX5_rate_0 15 rfl rfl)
theorem dX5_rate_16 : decode cX5_rate 16 = .ok (.iload_n 1, 1) := dk_27 (dk_at dksX5_rate_0 16 rfl rfl)
theorem dX5_rate_17 : decode cX5_rate 17 = .ok (.invokespecial 21, 3) := dk_183 0 21 (dk_at dksX5_rate_0 17 rfl rfl)
theorem dX5_rate_20 : decode cX5_rate 20 = .ok (.aload_n 0, 1) := dk_42 (dk_at dksX5_rate_0 20 rfl rfl)
theorem dX5_rate_21 : decode cX5_rate 21 = .ok (.getfield 1, 3) := dk_180 0 1 (dk_at dksX5_rate_0 21 rfl rfl)
theorem dX5_rate_24 : decode cX5_rate 24 = .ok (.getfield 25, 3) := dk_180 0 25 (dk_at dksX5_rate_1 0 rfl rfl)
theorem dX5_rate_27 : decode cX5_rate 27 = .ok (.getfield 29, 3) := dk_180 0 29 (dk_at dksX5_rate_1 3 rfl rfl)
theorem dX5_rate_30 : decode cX5_rate 30 = .ok (.aload_n 0, 1) := dk_42 (dk_at dksX5_rate_1 6 rfl rfl)
theorem dX5_rate_31 : decode cX5_rate 31 = .ok (.getfield 1, 3) := dk_180 0 1 (dk_at dksX5_rate_1 7 rfl rfl)
theorem dX5_rate_34 : decode cX5_rate 34 = .ok (.getfield 25, 3) := dk_180 0 25 (dk_at dksX5_rate_1 10 rfl rfl)
theorem dX5_rate_37 : decode cX5_rate 37 = .ok (.iload_n 1, 1) := dk_27 (dk_at dksX5_rate_1 13 rfl rfl)
theorem dX5_rate_38 : decode cX5_rate 38 = .ok (.invokevirtual 35, 3) := dk_182 0 35 (dk_at dksX5_rate_1 14 rfl rfl)
theorem dX5_rate_41 : decode cX5_rate 41 = .ok (.iaload, 1) := dk_46 (dk_at dksX5_rate_1 17 rfl rfl)
theorem dX5_rate_42 : decode cX5_rate 42 = .ok (.isub, 1) := dk_100 (dk_at dksX5_rate_1 18 rfl rfl)
theorem dX5_rate_43 : decode cX5_rate 43 = .ok (.ireturn, 1) := dk_172 (dk_at dksX5_rate_1 19 rfl rfl)
theorem q44 : (Jvm.Cond.initialized "BellLots$Cracked") ∈ lw_all := lw_g (lw_at lw_m1 6 rfl) rfl
theorem q155 : (Jvm.Cond.fieldLinkNest "BellLots$Cracked" (29 : Nat) "BellLots$Plain" "bears" "[I" "BellLots") ∈ lw_tbl := lw_at lw_m1 117 rfl
theorem q207 : (Jvm.Cond.instantiable "BellLots$Cracked" (2 : Nat)) ∈ lw_all := lw_g (lw_at lw_m1 169 rfl) rfl
theorem q209 : (Jvm.Cond.instanceMethod ({ cls := "BellLots$Cracked", name := "<init>", desc := "(LBellLots;)V" } : Jvm.MethodName)) ∈ lw_all := lw_g (lw_at lw_m1 171 rfl) rfl
theorem q210 : (Jvm.Cond.code ({ cls := "BellLots$Cracked", name := "<init>", desc := "(LBellLots;)V" } : Jvm.MethodName) prog_5_method_1_code (2 : Nat) (Option.none : Option Jvm.ClassFile.FieldType)) ∈ lw_all := lw_g (lw_at lw_m1 172 rfl) rfl
theorem q211 : (Jvm.Cond.methodLinkNest "BellLots$Cracked" (7 : Nat) ({ cls := "BellLots$Bell", name := "<init>", desc := "(LBellLots;)V" } : Jvm.MethodName) "BellLots") ∈ lw_tbl := lw_at lw_m1 173 rfl
theorem q212 : (Jvm.Cond.fieldLink "BellLots$Cracked" (1 : Nat) "BellLots$Cracked" "this$0" "LBellLots;") ∈ lw_all := lw_g (lw_at lw_m1 174 rfl) rfl
theorem q213 : (Jvm.Cond.laysFinal "BellLots$Cracked" "BellLots$Cracked" "this$0" "LBellLots;") ∈ lw_all := lw_g (lw_at lw_m1 175 rfl) rfl
theorem q214 : (Jvm.Cond.soleField "BellLots$Cracked" "this$0") ∈ lw_all := lw_g (lw_at lw_m1 176 rfl) rfl
theorem q215 : (Jvm.Cond.laysFinal "BellLots$Cracked" "BellLots$Bell" "this$0" "LBellLots;") ∈ lw_all := lw_g (lw_at lw_m1 177 rfl) rfl
theorem q216 : (Jvm.Cond.superclass "BellLots$Cracked" "BellLots$Bell") ∈ lw_all := lw_g (lw_at lw_m1 178 rfl) rfl
theorem q271 : (Jvm.Cond.fieldLinkNest "BellLots$Cracked" (25 : Nat) "BellLots" "now" "LBellLots$Plain;" "BellLots") ∈ lw_tbl := lw_at lw_m1 233 rfl
theorem q290 : (Jvm.Cond.fieldLinkNest "BellLots$Cracked" (13 : Nat) "BellLots" "trace" "J" "BellLots") ∈ lw_tbl := lw_at lw_m2 12 rfl
theorem q746 : (Jvm.Cond.selects "BellLots$Cracked" ({ cls := "BellLots$Bell", name := "rate", desc := "(I)I" } : Jvm.MethodName) ({ cls := "BellLots$Cracked", name := "rate", desc := "(I)I" } : Jvm.MethodName)) ∈ lw_all := lw_g (lw_at lw_m3 228 rfl) rfl
theorem q747 : (Jvm.Cond.instanceMethod ({ cls := "BellLots$Cracked", name := "rate", desc := "(I)I" } : Jvm.MethodName)) ∈ lw_all := lw_g (lw_at lw_m3 229 rfl) rfl
theorem q748 : (Jvm.Cond.code ({ cls := "BellLots$Cracked", name := "rate", desc := "(I)I" } : Jvm.MethodName) prog_5_method_2_code (2 : Nat) (Option.some Jvm.ClassFile.FieldType.int)) ∈ lw_all := lw_g (lw_at lw_m3 230 rfl) rfl
theorem q749 : (Jvm.Cond.constantLong "BellLots$Cracked" (19 : Nat) (100 : Int64)) ∈ lw_all := lw_g (lw_at lw_m3 231 rfl) rfl
theorem q750 : (Jvm.Cond.methodLink "BellLots$Cracked" (21 : Nat) ({ cls := "BellLots$Bell", name := "rate", desc := "(I)I" } : Jvm.MethodName)) ∈ lw_all := lw_g (lw_at lw_m3 232 rfl) rfl
theorem q751 : (Jvm.Cond.methodLink "BellLots$Cracked" (35 : Nat) ({ cls := "BellLots$Plain", name := "where", desc := "(I)I" } : Jvm.MethodName)) ∈ lw_all := lw_g (lw_at lw_m3 233 rfl) rfl
theorem q1100 : (Jvm.Cond.sameMethod "BellLots$Cracked" "BellLots$Cracked" "rate" "(I)I") ∈ lw_all := lw_g (lw_at lw_m5 102 rfl) rfl
theorem q1103 : (Jvm.Cond.castable "BellLots$Cracked" "BellLots$Bell") ∈ lw_tbl := lw_at lw_m5 105 rfl
theorem in_X5 : ∀ w ∈ wsX50, w ∈ lw_all := lw_in wsX50 [215, 213] (by decide +kernel) (by decide +kernel)
/-! BellLots$Storm -/
set_option maxRecDepth 100000
def RX6 : String := "BellLots$Storm"
def TX6 : u_T := fun k => match k with
  | 0 => ("BellLots$Bell", "this$0", "LBellLots;", true)
  | 1 => ("BellLots$Great", "this$0", "LBellLots;", true)
  | _ => ("BellLots$Storm", "this$0", "LBellLots;", true)
def tyX6 : Nat → FieldType := fun k => match k with
  | 0 => .object "BellLots"
  | 1 => .object "BellLots"
  | _ => .object "BellLots"
abbrev wsX60 : List Cond := u_ws RX6 TX6 3
-- two fields of one name: no nmX6
theorem tyX6_ok : ∀ k, k < 3 → parseFieldDescriptor (TX6 k).2.2.1 = some (tyX6 k) := by decide +kernel
abbrev cX6_init : ByteArray := prog_10_method_1_code
def yX6_init : MethodName := ⟨RX6, "<init>", "(LBellLots;)V"⟩
def dkwX6_init_0 : List UInt8 := [42, 43, 181, 0, 1, 42, 43, 183, 0, 7, 177]
abbrev dktX6_init_0 : List UInt8 := dkwX6_init_0 ++ []
theorem dksX6_init_0 : cX6_init.data.toList.drop 0 = dktX6_init_0 := by decide +kernel
theorem dX6_init_0 : decode cX6_init 0 = .ok (.aload_n 0, 1) := dk_42 (dk_at dksX6_init_0 0 rfl rfl)
theorem dX6_init_1 : decode cX6_init 1 = .ok (.aload_n 1, 1) := dk_43 (dk_at dksX6_init_0 1 rfl rfl)
theorem dX6_init_2 : decode cX6_init 2 = .ok (.putfield 1, 3) := dk_181 0 1 (dk_at dksX6_init_0 2 rfl rfl)
theorem dX6_init_5 : decode cX6_init 5 = .ok (.aload_n 0, 1) := dk_42 (dk_at dksX6_init_0 5 rfl rfl)
theorem dX6_init_6 : decode cX6_init 6 = .ok (.aload_n 1, 1) := dk_43 (dk_at dksX6_init_0 6 rfl rfl)
theorem dX6_init_7 : decode cX6_init 7 = .ok (.invokespecial 7, 3) := dk_183 0 7 (dk_at dksX6_init_0 7 rfl rfl)
theorem dX6_init_10 : decode cX6_init 10 = .ok (.return_, 1) := dk_177 (dk_at dksX6_init_0 10 rfl rfl)
abbrev cX6_rate : ByteArray := prog_10_method_2_code
def yX6_rate : MethodName := ⟨RX6, "rate", "(I)I"⟩
def dkwX6_rate_0 : List UInt8 := [42, 180, 0, 1, 89, 180, 0, 13, 20, 0, 19, 97, 181, 0, 13, 5, 42, 27, 183, 0, 21, 104, 172]
abbrev dktX6_rate_0 : List UInt8 := dkwX6_rate_0 ++ []
theorem dksX6_rate_0 : cX6_rate.data.toList.drop 0 = dktX6_rate_0 := by decide +kernel
theorem dX6_rate_0 : decode cX6_rate 0 = .ok (.aload_n 0, 1) := dk_42 (dk_at dksX6_rate_0 0 rfl rfl)
theorem dX6_rate_1 : decode cX6_rate 1 = .ok (.getfield 1, 3) := dk_180 0 1 (dk_at dksX6_rate_0 1 rfl rfl)
theorem dX6_rate_4 : decode cX6_rate 4 = .ok (.dup, 1) := dk_89 (dk_at dksX6_rate_0 4 rfl rfl)
theorem dX6_rate_5 : decode cX6_rate 5 = .ok (.getfield 13, 3) := dk_180 0 13 (dk_at dksX6_rate_0 5 rfl rfl)
theorem dX6_rate_8 : decode cX6_rate 8 = .ok (.ldc2_w 19, 3) := dk_20 0 19 (dk_at dksX6_rate_0 8 rfl rfl)
theorem dX6_rate_11 : decode cX6_rate 11 = .ok (.ladd, 1) := dk_97 (dk_at dksX6_rate_0 11 rfl rfl)
theorem dX6_rate_12 : decode cX6_rate 12 = .ok (.putfield 13, 3) := dk_181 0 13 (dk_at dksX6_rate_0 12 rfl rfl)
theorem dX6_rate_15 : decode cX6_rate 15 = .ok (.iconst 2, 1) := dk_5 (dk_at dksX6_rate_0 15 rfl rfl)
theorem dX6_rate_16 : decode cX6_rate 16 = .ok (.aload_n 0, 1) := dk_42 (dk_at dksX6_rate_0 16 rfl rfl)
theorem dX6_rate_17 : decode cX6_rate 17 = .ok (.iload_n 1, 1) := dk_27 (dk_at dksX6_rate_0 17 rfl rfl)
theorem dX6_rate_18 : decode cX6_rate 18 = .ok (.invokespecial 21, 3) := dk_183 0 21 (dk_at dksX6_rate_0 18 rfl rfl)
theorem dX6_rate_21 : decode cX6_rate 21 = .ok (.imul, 1) := dk_104 (dk_at dksX6_rate_0 21 rfl rfl)
theorem dX6_rate_22 : decode cX6_rate 22 = .ok (.ireturn, 1) := dk_172 (dk_at dksX6_rate_0 22 rfl rfl)
theorem q45 : (Jvm.Cond.initialized "BellLots$Storm") ∈ lw_all := lw_g (lw_at lw_m1 7 rfl) rfl
theorem q218 : (Jvm.Cond.instantiable "BellLots$Storm" (3 : Nat)) ∈ lw_all := lw_g (lw_at lw_m1 180 rfl) rfl
theorem q220 : (Jvm.Cond.instanceMethod ({ cls := "BellLots$Storm", name := "<init>", desc := "(LBellLots;)V" } : Jvm.MethodName)) ∈ lw_all := lw_g (lw_at lw_m1 182 rfl) rfl
theorem q221 : (Jvm.Cond.code ({ cls := "BellLots$Storm", name := "<init>", desc := "(LBellLots;)V" } : Jvm.MethodName) prog_10_method_1_code (2 : Nat) (Option.none : Option Jvm.ClassFile.FieldType)) ∈ lw_all := lw_g (lw_at lw_m1 183 rfl) rfl
theorem q222 : (Jvm.Cond.methodLinkNest "BellLots$Storm" (7 : Nat) ({ cls := "BellLots$Great", name := "<init>", desc := "(LBellLots;)V" } : Jvm.MethodName) "BellLots") ∈ lw_tbl := lw_at lw_m1 184 rfl
theorem q223 : (Jvm.Cond.fieldLink "BellLots$Storm" (1 : Nat) "BellLots$Storm" "this$0" "LBellLots;") ∈ lw_all := lw_g (lw_at lw_m1 185 rfl) rfl
theorem q224 : (Jvm.Cond.laysFinal "BellLots$Storm" "BellLots$Storm" "this$0" "LBellLots;") ∈ lw_all := lw_g (lw_at lw_m1 186 rfl) rfl
theorem q225 : (Jvm.Cond.soleField "BellLots$Storm" "this$0") ∈ lw_all := lw_g (lw_at lw_m1 187 rfl) rfl
theorem q226 : (Jvm.Cond.laysFinal "BellLots$Storm" "BellLots$Great" "this$0" "LBellLots;") ∈ lw_all := lw_g (lw_at lw_m1 188 rfl) rfl
theorem q227 : (Jvm.Cond.laysFinal "BellLots$Storm" "BellLots$Bell" "this$0" "LBellLots;") ∈ lw_all := lw_g (lw_at lw_m1 189 rfl) rfl
theorem q228 : (Jvm.Cond.superclass "BellLots$Storm" "BellLots$Great") ∈ lw_all := lw_g (lw_at lw_m1 190 rfl) rfl
theorem q293 : (Jvm.Cond.fieldLinkNest "BellLots$Storm" (13 : Nat) "BellLots" "trace" "J" "BellLots") ∈ lw_tbl := lw_at lw_m2 15 rfl
theorem q762 : (Jvm.Cond.selects "BellLots$Storm" ({ cls := "BellLots$Bell", name := "rate", desc := "(I)I" } : Jvm.MethodName) ({ cls := "BellLots$Storm", name := "rate", desc := "(I)I" } : Jvm.MethodName)) ∈ lw_all := lw_g (lw_at lw_m4 4 rfl) rfl
theorem q763 : (Jvm.Cond.instanceMethod ({ cls := "BellLots$Storm", name := "rate", desc := "(I)I" } : Jvm.MethodName)) ∈ lw_all := lw_g (lw_at lw_m4 5 rfl) rfl
theorem q764 : (Jvm.Cond.code ({ cls := "BellLots$Storm", name := "rate", desc := "(I)I" } : Jvm.MethodName) prog_10_method_2_code (2 : Nat) (Option.some Jvm.ClassFile.FieldType.int)) ∈ lw_all := lw_g (lw_at lw_m4 6 rfl) rfl
theorem q765 : (Jvm.Cond.constantLong "BellLots$Storm" (19 : Nat) (1000 : Int64)) ∈ lw_all := lw_g (lw_at lw_m4 7 rfl) rfl
theorem q766 : (Jvm.Cond.methodLink "BellLots$Storm" (21 : Nat) ({ cls := "BellLots$Great", name := "rate", desc := "(I)I" } : Jvm.MethodName)) ∈ lw_all := lw_g (lw_at lw_m4 8 rfl) rfl
theorem q1104 : (Jvm.Cond.castable "BellLots$Storm" "BellLots$Bell") ∈ lw_tbl := lw_at lw_m5 106 rfl
theorem in_X6 : ∀ w ∈ wsX60, w ∈ lw_all := lw_in wsX60 [227, 226, 224] (by decide +kernel) (by decide +kernel)
/-! BellLots$River -/
set_option maxRecDepth 100000
def RX7 : String := "BellLots$River"
def TX7 : u_T := fun k => match k with
  | 0 => ("BellLots$Bell", "this$0", "LBellLots;", true)
  | 1 => ("BellLots$Cracked", "this$0", "LBellLots;", true)
  | _ => ("BellLots$River", "this$0", "LBellLots;", true)
def tyX7 : Nat → FieldType := fun k => match k with
  | 0 => .object "BellLots"
  | 1 => .object "BellLots"
  | _ => .object "BellLots"
abbrev wsX70 : List Cond := u_ws RX7 TX7 3
-- two fields of one name: no nmX7
theorem tyX7_ok : ∀ k, k < 3 → parseFieldDescriptor (TX7 k).2.2.1 = some (tyX7 k) := by decide +kernel
abbrev cX7_init : ByteArray := prog_9_method_1_code
def yX7_init : MethodName := ⟨RX7, "<init>", "(LBellLots;)V"⟩
def dkwX7_init_0 : List UInt8 := [42, 43, 181, 0, 1, 42, 43, 183, 0, 7, 177]
abbrev dktX7_init_0 : List UInt8 := dkwX7_init_0 ++ []
theorem dksX7_init_0 : cX7_init.data.toList.drop 0 = dktX7_init_0 := by decide +kernel
theorem dX7_init_0 : decode cX7_init 0 = .ok (.aload_n 0, 1) := dk_42 (dk_at dksX7_init_0 0 rfl rfl)
theorem dX7_init_1 : decode cX7_init 1 = .ok (.aload_n 1, 1) := dk_43 (dk_at dksX7_init_0 1 rfl rfl)
theorem dX7_init_2 : decode cX7_init 2 = .ok (.putfield 1, 3) := dk_181 0 1 (dk_at dksX7_init_0 2 rfl rfl)
theorem dX7_init_5 : decode cX7_init 5 = .ok (.aload_n 0, 1) := dk_42 (dk_at dksX7_init_0 5 rfl rfl)
theorem dX7_init_6 : decode cX7_init 6 = .ok (.aload_n 1, 1) := dk_43 (dk_at dksX7_init_0 6 rfl rfl)
theorem dX7_init_7 : decode cX7_init 7 = .ok (.invokespecial 7, 3) := dk_183 0 7 (dk_at dksX7_init_0 7 rfl rfl)
theorem dX7_init_10 : decode cX7_init 10 = .ok (.return_, 1) := dk_177 (dk_at dksX7_init_0 10 rfl rfl)
abbrev cX7_rate : ByteArray := prog_9_method_2_code
def yX7_rate : MethodName := ⟨RX7, "rate", "(I)I"⟩
def dkwX7_rate_0 : List UInt8 := [42, 180, 0, 1, 89, 180, 0, 13, 20, 0, 19, 97, 181, 0, 13, 42, 27, 183, 0, 21, 27, 96, 172]
abbrev dktX7_rate_0 : List UInt8 := dkwX7_rate_0 ++ []
theorem dksX7_rate_0 : cX7_rate.data.toList.drop 0 = dktX7_rate_0 := by decide +kernel
theorem dX7_rate_0 : decode cX7_rate 0 = .ok (.aload_n 0, 1) := dk_42 (dk_at dksX7_rate_0 0 rfl rfl)
theorem dX7_rate_1 : decode cX7_rate 1 = .ok (.getfield 1, 3) := dk_180 0 1 (dk_at dksX7_rate_0 1 rfl rfl)
theorem dX7_rate_4 : decode cX7_rate 4 = .ok (.dup, 1) := dk_89 (dk_at dksX7_rate_0 4 rfl rfl)
theorem dX7_rate_5 : decode cX7_rate 5 = .ok (.getfield 13, 3) := dk_180 0 13 (dk_at dksX7_rate_0 5 rfl rfl)
theorem dX7_rate_8 : decode cX7_rate 8 = .ok (.ldc2_w 19, 3) := dk_20 0 19 (dk_at dksX7_rate_0 8 rfl rfl)
theorem dX7_rate_11 : decode cX7_rate 11 = .ok (.ladd, 1) := dk_97 (dk_at dksX7_rate_0 11 rfl rfl)
theorem dX7_rate_12 : decode cX7_rate 12 = .ok (.putfield 13, 3) := dk_181 0 13 (dk_at dksX7_rate_0 12 rfl rfl)
theorem dX7_rate_15 : decode cX7_rate 15 = .ok (.aload_n 0, 1) := dk_42 (dk_at dksX7_rate_0 15 rfl rfl)
theorem dX7_rate_16 : decode cX7_rate 16 = .ok (.iload_n 1, 1) := dk_27 (dk_at dksX7_rate_0 16 rfl rfl)
theorem dX7_rate_17 : decode cX7_rate 17 = .ok (.invokespecial 21, 3) := dk_183 0 21 (dk_at dksX7_rate_0 17 rfl rfl)
theorem dX7_rate_20 : decode cX7_rate 20 = .ok (.iload_n 1, 1) := dk_27 (dk_at dksX7_rate_0 20 rfl rfl)
theorem dX7_rate_21 : decode cX7_rate 21 = .ok (.iadd, 1) := dk_96 (dk_at dksX7_rate_0 21 rfl rfl)
theorem dX7_rate_22 : decode cX7_rate 22 = .ok (.ireturn, 1) := dk_172 (dk_at dksX7_rate_0 22 rfl rfl)
theorem q46 : (Jvm.Cond.initialized "BellLots$River") ∈ lw_all := lw_g (lw_at lw_m1 8 rfl) rfl
theorem q230 : (Jvm.Cond.instantiable "BellLots$River" (3 : Nat)) ∈ lw_all := lw_g (lw_at lw_m1 192 rfl) rfl
theorem q232 : (Jvm.Cond.instanceMethod ({ cls := "BellLots$River", name := "<init>", desc := "(LBellLots;)V" } : Jvm.MethodName)) ∈ lw_all := lw_g (lw_at lw_m1 194 rfl) rfl
theorem q233 : (Jvm.Cond.code ({ cls := "BellLots$River", name := "<init>", desc := "(LBellLots;)V" } : Jvm.MethodName) prog_9_method_1_code (2 : Nat) (Option.none : Option Jvm.ClassFile.FieldType)) ∈ lw_all := lw_g (lw_at lw_m1 195 rfl) rfl
theorem q234 : (Jvm.Cond.methodLinkNest "BellLots$River" (7 : Nat) ({ cls := "BellLots$Cracked", name := "<init>", desc := "(LBellLots;)V" } : Jvm.MethodName) "BellLots") ∈ lw_tbl := lw_at lw_m1 196 rfl
theorem q235 : (Jvm.Cond.fieldLink "BellLots$River" (1 : Nat) "BellLots$River" "this$0" "LBellLots;") ∈ lw_all := lw_g (lw_at lw_m1 197 rfl) rfl
theorem q236 : (Jvm.Cond.laysFinal "BellLots$River" "BellLots$River" "this$0" "LBellLots;") ∈ lw_all := lw_g (lw_at lw_m1 198 rfl) rfl
theorem q237 : (Jvm.Cond.soleField "BellLots$River" "this$0") ∈ lw_all := lw_g (lw_at lw_m1 199 rfl) rfl
theorem q238 : (Jvm.Cond.laysFinal "BellLots$River" "BellLots$Cracked" "this$0" "LBellLots;") ∈ lw_all := lw_g (lw_at lw_m1 200 rfl) rfl
theorem q239 : (Jvm.Cond.laysFinal "BellLots$River" "BellLots$Bell" "this$0" "LBellLots;") ∈ lw_all := lw_g (lw_at lw_m1 201 rfl) rfl
theorem q240 : (Jvm.Cond.superclass "BellLots$River" "BellLots$Cracked") ∈ lw_all := lw_g (lw_at lw_m1 202 rfl) rfl
theorem q292 : (Jvm.Cond.fieldLinkNest "BellLots$River" (13 : Nat) "BellLots" "trace" "J" "BellLots") ∈ lw_tbl := lw_at lw_m2 14 rfl
theorem q757 : (Jvm.Cond.selects "BellLots$River" ({ cls := "BellLots$Bell", name := "rate", desc := "(I)I" } : Jvm.MethodName) ({ cls := "BellLots$River", name := "rate", desc := "(I)I" } : Jvm.MethodName)) ∈ lw_all := lw_g (lw_at lw_m3 239 rfl) rfl
theorem q758 : (Jvm.Cond.instanceMethod ({ cls := "BellLots$River", name := "rate", desc := "(I)I" } : Jvm.MethodName)) ∈ lw_all := lw_g (lw_at lw_m4 0 rfl) rfl
theorem q759 : (Jvm.Cond.code ({ cls := "BellLots$River", name := "rate", desc := "(I)I" } : Jvm.MethodName) prog_9_method_2_code (2 : Nat) (Option.some Jvm.ClassFile.FieldType.int)) ∈ lw_all := lw_g (lw_at lw_m4 1 rfl) rfl
theorem q760 : (Jvm.Cond.constantLong "BellLots$River" (19 : Nat) (10000 : Int64)) ∈ lw_all := lw_g (lw_at lw_m4 2 rfl) rfl
theorem q761 : (Jvm.Cond.methodLink "BellLots$River" (21 : Nat) ({ cls := "BellLots$Cracked", name := "rate", desc := "(I)I" } : Jvm.MethodName)) ∈ lw_all := lw_g (lw_at lw_m4 3 rfl) rfl
theorem q1105 : (Jvm.Cond.castable "BellLots$River" "BellLots$Bell") ∈ lw_tbl := lw_at lw_m5 107 rfl
theorem in_X7 : ∀ w ∈ wsX70, w ∈ lw_all := lw_in wsX70 [239, 238, 236] (by decide +kernel) (by decide +kernel)
/-! BellLots$Cow -/
set_option maxRecDepth 100000
def RX8 : String := "BellLots$Cow"
def TX8 : u_T := fun k => match k with
  | 0 => ("BellLots$Bell", "this$0", "LBellLots;", true)
  | _ => ("BellLots$Cow", "this$0", "LBellLots;", true)
def tyX8 : Nat → FieldType := fun k => match k with
  | 0 => .object "BellLots"
  | _ => .object "BellLots"
abbrev wsX80 : List Cond := u_ws RX8 TX8 2
-- two fields of one name: no nmX8
theorem tyX8_ok : ∀ k, k < 2 → parseFieldDescriptor (TX8 k).2.2.1 = some (tyX8 k) := by decide +kernel
abbrev cX8_init : ByteArray := prog_4_method_1_code
def yX8_init : MethodName := ⟨RX8, "<init>", "(LBellLots;)V"⟩
def dkwX8_init_0 : List UInt8 := [42, 43, 181, 0, 1, 42, 43, 183, 0, 7, 177]
abbrev dktX8_init_0 : List UInt8 := dkwX8_init_0 ++ []
theorem dksX8_init_0 : cX8_init.data.toList.drop 0 = dktX8_init_0 := by decide +kernel
theorem dX8_init_0 : decode cX8_init 0 = .ok (.aload_n 0, 1) := dk_42 (dk_at dksX8_init_0 0 rfl rfl)
theorem dX8_init_1 : decode cX8_init 1 = .ok (.aload_n 1, 1) := dk_43 (dk_at dksX8_init_0 1 rfl rfl)
theorem dX8_init_2 : decode cX8_init 2 = .ok (.putfield 1, 3) := dk_181 0 1 (dk_at dksX8_init_0 2 rfl rfl)
theorem dX8_init_5 : decode cX8_init 5 = .ok (.aload_n 0, 1) := dk_42 (dk_at dksX8_init_0 5 rfl rfl)
theorem dX8_init_6 : decode cX8_init 6 = .ok (.aload_n 1, 1) := dk_43 (dk_at dksX8_init_0 6 rfl rfl)
theorem dX8_init_7 : decode cX8_init 7 = .ok (.invokespecial 7, 3) := dk_183 0 7 (dk_at dksX8_init_0 7 rfl rfl)
theorem dX8_init_10 : decode cX8_init 10 = .ok (.return_, 1) := dk_177 (dk_at dksX8_init_0 10 rfl rfl)
abbrev cX8_rate : ByteArray := prog_4_method_2_code
def yX8_rate : MethodName := ⟨RX8, "rate", "(I)I"⟩
def dkwX8_rate_1 : List UInt8 := [180, 0, 25, 180, 0, 29, 96, 172]
abbrev dktX8_rate_1 : List UInt8 := dkwX8_rate_1 ++ []
def dkwX8_rate_0 : List UInt8 := [42, 180, 0, 1, 89, 180, 0, 13, 20, 0, 19, 97, 181, 0, 13, 42, 27, 183, 0, 21, 42, 180, 0, 1]
abbrev dktX8_rate_0 : List UInt8 := dkwX8_rate_0 ++ dktX8_rate_1
theorem dksX8_rate_0 : cX8_rate.data.toList.drop 0 = dktX8_rate_0 := by decide +kernel
theorem dksX8_rate_1 : cX8_rate.data.toList.drop 24 = dktX8_rate_1 := dk_seg dksX8_rate_0 24 rfl rfl
theorem dX8_rate_0 : decode cX8_rate 0 = .ok (.aload_n 0, 1) := dk_42 (dk_at dksX8_rate_0 0 rfl rfl)
theorem dX8_rate_1 : decode cX8_rate 1 = .ok (.getfield 1, 3) := dk_180 0 1 (dk_at dksX8_rate_0 1 rfl rfl)
theorem dX8_rate_4 : decode cX8_rate 4 = .ok (.dup, 1) := dk_89 (dk_at dksX8_rate_0 4 rfl rfl)
theorem dX8_rate_5 : decode cX8_rate 5 = .ok (.getfield 13, 3) := dk_180 0 13 (dk_at dksX8_rate_0 5 rfl rfl)
theorem dX8_rate_8 : decode cX8_rate 8 = .ok (.ldc2_w 19, 3) := dk_20 0 19 (dk_at dksX8_rate_0 8 rfl rfl)
theorem dX8_rate_11 : decode cX8_rate 11 = .ok (.ladd, 1) := dk_97 (dk_at dksX8_rate_0 11 rfl rfl)
theorem dX8_rate_12 : decode cX8_rate 12 = .ok (.putfield 13, 3) := dk_181 0 13 (dk_at dksX8_rate_0 12 rfl rfl)
theorem dX8_rate_15 : decode cX8_rate 15 = .ok (.aload_n 0, 1) := dk_42 (dk_at dksX8_rate_0 15 rfl rfl)
theorem dX8_rate_16 : decode cX8_rate 16 = .ok (.iload_n 1, 1) := dk_27 (dk_at dksX8_rate_0 16 rfl rfl)
theorem dX8_rate_17 : decode cX8_rate 17 = .ok (.invokespecial 21, 3) := dk_183 0 21 (dk_at dksX8_rate_0 17 rfl rfl)
theorem dX8_rate_20 : decode cX8_rate 20 = .ok (.aload_n 0, 1) := dk_42 (dk_at dksX8_rate_0 20 rfl rfl)
theorem dX8_rate_21 : decode cX8_rate 21 = .ok (.getfield 1, 3) := dk_180 0 1 (dk_at dksX8_rate_0 21 rfl rfl)
theorem dX8_rate_24 : decode cX8_rate 24 = .ok (.getfield 25, 3) := dk_180 0 25 (dk_at dksX8_rate_1 0 rfl rfl)
theorem dX8_rate_27 : decode cX8_rate 27 = .ok (.getfield 29, 3) := dk_180 0 29 (dk_at dksX8_rate_1 3 rfl rfl)
theorem dX8_rate_30 : decode cX8_rate 30 = .ok (.iadd, 1) := dk_96 (dk_at dksX8_rate_1 6 rfl rfl)
theorem dX8_rate_31 : decode cX8_rate 31 = .ok (.ireturn, 1) := dk_172 (dk_at dksX8_rate_1 7 rfl rfl)
theorem q47 : (Jvm.Cond.initialized "BellLots$Cow") ∈ lw_all := lw_g (lw_at lw_m1 9 rfl) rfl
theorem q148 : (Jvm.Cond.fieldLinkNest "BellLots$Cow" (29 : Nat) "BellLots$Plain" "term" "I" "BellLots") ∈ lw_tbl := lw_at lw_m1 110 rfl
theorem q242 : (Jvm.Cond.instantiable "BellLots$Cow" (2 : Nat)) ∈ lw_all := lw_g (lw_at lw_m1 204 rfl) rfl
theorem q244 : (Jvm.Cond.instanceMethod ({ cls := "BellLots$Cow", name := "<init>", desc := "(LBellLots;)V" } : Jvm.MethodName)) ∈ lw_all := lw_g (lw_at lw_m1 206 rfl) rfl
theorem q245 : (Jvm.Cond.code ({ cls := "BellLots$Cow", name := "<init>", desc := "(LBellLots;)V" } : Jvm.MethodName) prog_4_method_1_code (2 : Nat) (Option.none : Option Jvm.ClassFile.FieldType)) ∈ lw_all := lw_g (lw_at lw_m1 207 rfl) rfl
theorem q246 : (Jvm.Cond.methodLinkNest "BellLots$Cow" (7 : Nat) ({ cls := "BellLots$Bell", name := "<init>", desc := "(LBellLots;)V" } : Jvm.MethodName) "BellLots") ∈ lw_tbl := lw_at lw_m1 208 rfl
theorem q247 : (Jvm.Cond.fieldLink "BellLots$Cow" (1 : Nat) "BellLots$Cow" "this$0" "LBellLots;") ∈ lw_all := lw_g (lw_at lw_m1 209 rfl) rfl
theorem q248 : (Jvm.Cond.laysFinal "BellLots$Cow" "BellLots$Cow" "this$0" "LBellLots;") ∈ lw_all := lw_g (lw_at lw_m1 210 rfl) rfl
theorem q249 : (Jvm.Cond.soleField "BellLots$Cow" "this$0") ∈ lw_all := lw_g (lw_at lw_m1 211 rfl) rfl
theorem q250 : (Jvm.Cond.laysFinal "BellLots$Cow" "BellLots$Bell" "this$0" "LBellLots;") ∈ lw_all := lw_g (lw_at lw_m1 212 rfl) rfl
theorem q251 : (Jvm.Cond.superclass "BellLots$Cow" "BellLots$Bell") ∈ lw_all := lw_g (lw_at lw_m1 213 rfl) rfl
theorem q270 : (Jvm.Cond.fieldLinkNest "BellLots$Cow" (25 : Nat) "BellLots" "now" "LBellLots$Plain;" "BellLots") ∈ lw_tbl := lw_at lw_m1 232 rfl
theorem q289 : (Jvm.Cond.fieldLinkNest "BellLots$Cow" (13 : Nat) "BellLots" "trace" "J" "BellLots") ∈ lw_tbl := lw_at lw_m2 11 rfl
theorem q741 : (Jvm.Cond.selects "BellLots$Cow" ({ cls := "BellLots$Bell", name := "rate", desc := "(I)I" } : Jvm.MethodName) ({ cls := "BellLots$Cow", name := "rate", desc := "(I)I" } : Jvm.MethodName)) ∈ lw_all := lw_g (lw_at lw_m3 223 rfl) rfl
theorem q742 : (Jvm.Cond.instanceMethod ({ cls := "BellLots$Cow", name := "rate", desc := "(I)I" } : Jvm.MethodName)) ∈ lw_all := lw_g (lw_at lw_m3 224 rfl) rfl
theorem q743 : (Jvm.Cond.code ({ cls := "BellLots$Cow", name := "rate", desc := "(I)I" } : Jvm.MethodName) prog_4_method_2_code (2 : Nat) (Option.some Jvm.ClassFile.FieldType.int)) ∈ lw_all := lw_g (lw_at lw_m3 225 rfl) rfl
theorem q744 : (Jvm.Cond.constantLong "BellLots$Cow" (19 : Nat) (100000 : Int64)) ∈ lw_all := lw_g (lw_at lw_m3 226 rfl) rfl
theorem q745 : (Jvm.Cond.methodLink "BellLots$Cow" (21 : Nat) ({ cls := "BellLots$Bell", name := "rate", desc := "(I)I" } : Jvm.MethodName)) ∈ lw_all := lw_g (lw_at lw_m3 227 rfl) rfl
theorem q1106 : (Jvm.Cond.castable "BellLots$Cow" "BellLots$Bell") ∈ lw_tbl := lw_at lw_m5 108 rfl
theorem in_X8 : ∀ w ∈ wsX80, w ∈ lw_all := lw_in wsX80 [250, 248] (by decide +kernel) (by decide +kernel)
/-! BellLots$Reader -/
set_option maxRecDepth 100000
def RX10 : String := "BellLots$Reader"
def TX10 : u_T := fun k => match k with
  | 0 => ("BellLots$Reader", "at", "I", false)
  | 1 => ("BellLots$Reader", "start", "I", false)
  | 2 => ("BellLots$Reader", "sort", "I", false)
  | 3 => ("BellLots$Reader", "value", "I", false)
  | 4 => ("BellLots$Reader", "made", "LBellLots$Book;", true)
  | _ => ("BellLots$Reader", "this$0", "LBellLots;", true)
def tyX10 : Nat → FieldType := fun k => match k with
  | 0 => .int
  | 1 => .int
  | 2 => .int
  | 3 => .int
  | 4 => .object "BellLots$Book"
  | _ => .object "BellLots"
abbrev wsX100 : List Cond := u_ws RX10 TX10 6
theorem nmX10 : ∀ a, a < 6 → ∀ b, b < 6 → a ≠ b → (TX10 a).2.1 ≠ (TX10 b).2.1 := by decide +kernel
theorem tyX10_ok : ∀ k, k < 6 → parseFieldDescriptor (TX10 k).2.2.1 = some (tyX10 k) := by decide +kernel
abbrev cX10_init : ByteArray := prog_8_method_1_code
def yX10_init : MethodName := ⟨RX10, "<init>", "(LBellLots;)V"⟩
def dkwX10_init_0 : List UInt8 := [42, 43, 181, 0, 3, 42, 183, 0, 9, 42, 187, 0, 15, 89, 183, 0, 17, 181, 0, 18, 177]
abbrev dktX10_init_0 : List UInt8 := dkwX10_init_0 ++ []
theorem dksX10_init_0 : cX10_init.data.toList.drop 0 = dktX10_init_0 := by decide +kernel
theorem dX10_init_0 : decode cX10_init 0 = .ok (.aload_n 0, 1) := dk_42 (dk_at dksX10_init_0 0 rfl rfl)
theorem dX10_init_1 : decode cX10_init 1 = .ok (.aload_n 1, 1) := dk_43 (dk_at dksX10_init_0 1 rfl rfl)
theorem dX10_init_2 : decode cX10_init 2 = .ok (.putfield 3, 3) := dk_181 0 3 (dk_at dksX10_init_0 2 rfl rfl)
theorem dX10_init_5 : decode cX10_init 5 = .ok (.aload_n 0, 1) := dk_42 (dk_at dksX10_init_0 5 rfl rfl)
theorem dX10_init_6 : decode cX10_init 6 = .ok (.invokespecial 9, 3) := dk_183 0 9 (dk_at dksX10_init_0 6 rfl rfl)
theorem dX10_init_9 : decode cX10_init 9 = .ok (.aload_n 0, 1) := dk_42 (dk_at dksX10_init_0 9 rfl rfl)
theorem dX10_init_10 : decode cX10_init 10 = .ok (.new 15, 3) := dk_187 0 15 (dk_at dksX10_init_0 10 rfl rfl)
theorem dX10_init_13 : decode cX10_init 13 = .ok (.dup, 1) := dk_89 (dk_at dksX10_init_0 13 rfl rfl)
theorem dX10_init_14 : decode cX10_init 14 = .ok (.invokespecial 17, 3) := dk_183 0 17 (dk_at dksX10_init_0 14 rfl rfl)
theorem dX10_init_17 : decode cX10_init 17 = .ok (.putfield 18, 3) := dk_181 0 18 (dk_at dksX10_init_0 17 rfl rfl)
theorem dX10_init_20 : decode cX10_init 20 = .ok (.return_, 1) := dk_177 (dk_at dksX10_init_0 20 rfl rfl)
abbrev cX10_read : ByteArray := prog_8_method_9_code
def yX10_read : MethodName := ⟨RX10, "read", "()LBellLots$Book;"⟩
def dkwX10_read_3 : List UInt8 := [182, 0, 121, 42, 180, 0, 18, 176]
abbrev dktX10_read_3 : List UInt8 := dkwX10_read_3 ++ []
def dkwX10_read_2 : List UInt8 := [182, 0, 72, 87, 42, 180, 0, 18, 89, 180, 0, 118, 4, 96, 181, 0, 118, 167, 255, 197, 42, 180, 0, 18]
abbrev dktX10_read_2 : List UInt8 := dkwX10_read_2 ++ dktX10_read_3
def dkwX10_read_1 : List UInt8 := [182, 0, 72, 87, 42, 27, 182, 0, 115, 42, 42, 180, 0, 43, 7, 160, 0, 7, 4, 167, 0, 4, 3]
abbrev dktX10_read_1 : List UInt8 := dkwX10_read_1 ++ dktX10_read_2
def dkwX10_read_0 : List UInt8 := [42, 182, 0, 69, 42, 180, 0, 43, 8, 159, 0, 57, 42, 180, 0, 43, 60, 42, 42, 27, 182, 0, 111]
abbrev dktX10_read_0 : List UInt8 := dkwX10_read_0 ++ dktX10_read_1
theorem dksX10_read_0 : cX10_read.data.toList.drop 0 = dktX10_read_0 := by decide +kernel
theorem dksX10_read_1 : cX10_read.data.toList.drop 23 = dktX10_read_1 := dk_seg dksX10_read_0 23 rfl rfl
theorem dksX10_read_2 : cX10_read.data.toList.drop 46 = dktX10_read_2 := dk_seg dksX10_read_1 23 rfl rfl
theorem dksX10_read_3 : cX10_read.data.toList.drop 70 = dktX10_read_3 := dk_seg dksX10_read_2 24 rfl rfl
theorem dX10_read_0 : decode cX10_read 0 = .ok (.aload_n 0, 1) := dk_42 (dk_at dksX10_read_0 0 rfl rfl)
theorem dX10_read_1 : decode cX10_read 1 = .ok (.invokevirtual 69, 3) := dk_182 0 69 (dk_at dksX10_read_0 1 rfl rfl)
theorem dX10_read_4 : decode cX10_read 4 = .ok (.aload_n 0, 1) := dk_42 (dk_at dksX10_read_0 4 rfl rfl)
theorem dX10_read_5 : decode cX10_read 5 = .ok (.getfield 43, 3) := dk_180 0 43 (dk_at dksX10_read_0 5 rfl rfl)
theorem dX10_read_8 : decode cX10_read 8 = .ok (.iconst 5, 1) := dk_8 (dk_at dksX10_read_0 8 rfl rfl)
theorem dX10_read_9 : decode cX10_read 9 = .ok (.if_icmp .eq 57, 3) := dk_159 0 57 (dk_at dksX10_read_0 9 rfl rfl)
theorem dX10_read_12 : decode cX10_read 12 = .ok (.aload_n 0, 1) := dk_42 (dk_at dksX10_read_0 12 rfl rfl)
theorem dX10_read_13 : decode cX10_read 13 = .ok (.getfield 43, 3) := dk_180 0 43 (dk_at dksX10_read_0 13 rfl rfl)
theorem dX10_read_16 : decode cX10_read 16 = .ok (.istore_n 1, 1) := dk_60 (dk_at dksX10_read_0 16 rfl rfl)
theorem dX10_read_17 : decode cX10_read 17 = .ok (.aload_n 0, 1) := dk_42 (dk_at dksX10_read_0 17 rfl rfl)
theorem dX10_read_18 : decode cX10_read 18 = .ok (.aload_n 0, 1) := dk_42 (dk_at dksX10_read_0 18 rfl rfl)
theorem dX10_read_19 : decode cX10_read 19 = .ok (.iload_n 1, 1) := dk_27 (dk_at dksX10_read_0 19 rfl rfl)
theorem dX10_read_20 : decode cX10_read 20 = .ok (.invokevirtual 111, 3) := dk_182 0 111 (dk_at dksX10_read_0 20 rfl rfl)
theorem dX10_read_23 : decode cX10_read 23 = .ok (.invokevirtual 72, 3) := dk_182 0 72 (dk_at dksX10_read_1 0 rfl rfl)
theorem dX10_read_26 : decode cX10_read 26 = .ok (.pop, 1) := dk_87 (dk_at dksX10_read_1 3 rfl rfl)
theorem dX10_read_27 : decode cX10_read 27 = .ok (.aload_n 0, 1) := dk_42 (dk_at dksX10_read_1 4 rfl rfl)
theorem dX10_read_28 : decode cX10_read 28 = .ok (.iload_n 1, 1) := dk_27 (dk_at dksX10_read_1 5 rfl rfl)
theorem dX10_read_29 : decode cX10_read 29 = .ok (.invokevirtual 115, 3) := dk_182 0 115 (dk_at dksX10_read_1 6 rfl rfl)
theorem dX10_read_32 : decode cX10_read 32 = .ok (.aload_n 0, 1) := dk_42 (dk_at dksX10_read_1 9 rfl rfl)
theorem dX10_read_33 : decode cX10_read 33 = .ok (.aload_n 0, 1) := dk_42 (dk_at dksX10_read_1 10 rfl rfl)
theorem dX10_read_34 : decode cX10_read 34 = .ok (.getfield 43, 3) := dk_180 0 43 (dk_at dksX10_read_1 11 rfl rfl)
theorem dX10_read_37 : decode cX10_read 37 = .ok (.iconst 4, 1) := dk_7 (dk_at dksX10_read_1 14 rfl rfl)
theorem dX10_read_38 : decode cX10_read 38 = .ok (.if_icmp .ne 7, 3) := dk_160 0 7 (dk_at dksX10_read_1 15 rfl rfl)
theorem dX10_read_41 : decode cX10_read 41 = .ok (.iconst 1, 1) := dk_4 (dk_at dksX10_read_1 18 rfl rfl)
theorem dX10_read_42 : decode cX10_read 42 = .ok (.goto 4, 3) := dk_167 0 4 (dk_at dksX10_read_1 19 rfl rfl)
theorem dX10_read_45 : decode cX10_read 45 = .ok (.iconst 0, 1) := dk_3 (dk_at dksX10_read_1 22 rfl rfl)
theorem dX10_read_46 : decode cX10_read 46 = .ok (.invokevirtual 72, 3) := dk_182 0 72 (dk_at dksX10_read_2 0 rfl rfl)
theorem dX10_read_49 : decode cX10_read 49 = .ok (.pop, 1) := dk_87 (dk_at dksX10_read_2 3 rfl rfl)
theorem dX10_read_50 : decode cX10_read 50 = .ok (.aload_n 0, 1) := dk_42 (dk_at dksX10_read_2 4 rfl rfl)
theorem dX10_read_51 : decode cX10_read 51 = .ok (.getfield 18, 3) := dk_180 0 18 (dk_at dksX10_read_2 5 rfl rfl)
theorem dX10_read_54 : decode cX10_read 54 = .ok (.dup, 1) := dk_89 (dk_at dksX10_read_2 8 rfl rfl)
theorem dX10_read_55 : decode cX10_read 55 = .ok (.getfield 118, 3) := dk_180 0 118 (dk_at dksX10_read_2 9 rfl rfl)
theorem dX10_read_58 : decode cX10_read 58 = .ok (.iconst 1, 1) := dk_4 (dk_at dksX10_read_2 12 rfl rfl)
theorem dX10_read_59 : decode cX10_read 59 = .ok (.iadd, 1) := dk_96 (dk_at dksX10_read_2 13 rfl rfl)
theorem dX10_read_60 : decode cX10_read 60 = .ok (.putfield 118, 3) := dk_181 0 118 (dk_at dksX10_read_2 14 rfl rfl)
theorem dX10_read_63 : decode cX10_read 63 = .ok (.goto (-59), 3) := dk_167 255 197 (dk_at dksX10_read_2 17 rfl rfl)
theorem dX10_read_66 : decode cX10_read 66 = .ok (.aload_n 0, 1) := dk_42 (dk_at dksX10_read_2 20 rfl rfl)
theorem dX10_read_67 : decode cX10_read 67 = .ok (.getfield 18, 3) := dk_180 0 18 (dk_at dksX10_read_2 21 rfl rfl)
theorem dX10_read_70 : decode cX10_read 70 = .ok (.invokevirtual 121, 3) := dk_182 0 121 (dk_at dksX10_read_3 0 rfl rfl)
theorem dX10_read_73 : decode cX10_read 73 = .ok (.aload_n 0, 1) := dk_42 (dk_at dksX10_read_3 3 rfl rfl)
theorem dX10_read_74 : decode cX10_read 74 = .ok (.getfield 18, 3) := dk_180 0 18 (dk_at dksX10_read_3 4 rfl rfl)
theorem dX10_read_77 : decode cX10_read 77 = .ok (.areturn, 1) := dk_176 (dk_at dksX10_read_3 7 rfl rfl)
abbrev cX10_step : ByteArray := prog_8_method_3_code
def yX10_step : MethodName := ⟨RX10, "step", "()V"⟩
def dkwX10_step_8 : List UInt8 := [155, 0, 7, 28, 167, 0, 5, 16, 6, 181, 0, 43, 177]
abbrev dktX10_step_8 : List UInt8 := dkwX10_step_8 ++ []
def dkwX10_step_7 : List UInt8 := [181, 0, 22, 18, 56, 27, 182, 0, 58, 61, 42, 27, 16, 59, 160, 0, 7, 7, 167, 0, 13, 28]
abbrev dktX10_step_7 : List UInt8 := dkwX10_step_7 ++ dktX10_step_8
def dkwX10_step_6 : List UInt8 := [164, 0, 8, 16, 6, 167, 0, 4, 6, 181, 0, 43, 167, 0, 44, 42, 89, 180, 0, 22, 4, 96]
abbrev dktX10_step_6 : List UInt8 := dkwX10_step_6 ++ dktX10_step_7
def dkwX10_step_5 : List UInt8 := [180, 0, 40, 16, 99, 163, 0, 22, 27, 16, 48, 160, 0, 21, 42, 180, 0, 22, 42, 180, 0, 37, 100, 4]
abbrev dktX10_step_5 : List UInt8 := dkwX10_step_5 ++ dktX10_step_6
def dkwX10_step_4 : List UInt8 := [16, 48, 100, 184, 0, 50, 181, 0, 40, 42, 89, 180, 0, 22, 4, 96, 181, 0, 22, 167, 255, 208, 42, 42]
abbrev dktX10_step_4 : List UInt8 := dkwX10_step_4 ++ dktX10_step_5
def dkwX10_step_3 : List UInt8 := [16, 57, 184, 0, 46, 153, 0, 40, 42, 16, 100, 16, 10, 42, 180, 0, 40, 104, 42, 182, 0, 33, 96]
abbrev dktX10_step_3 : List UInt8 := dkwX10_step_3 ++ dktX10_step_4
def dkwX10_step_2 : List UInt8 := [181, 0, 43, 167, 0, 147, 27, 16, 48, 16, 57, 184, 0, 46, 153, 0, 95, 42, 182, 0, 33, 16, 48]
abbrev dktX10_step_2 : List UInt8 := dkwX10_step_2 ++ dktX10_step_3
def dkwX10_step_1 : List UInt8 := [180, 0, 22, 181, 0, 37, 42, 3, 181, 0, 40, 42, 182, 0, 33, 60, 27, 156, 0, 11, 42, 8]
abbrev dktX10_step_1 : List UInt8 := dkwX10_step_1 ++ dktX10_step_2
def dkwX10_step_0 : List UInt8 := [42, 182, 0, 33, 16, 32, 160, 0, 16, 42, 89, 180, 0, 22, 4, 96, 181, 0, 22, 167, 255, 237, 42, 42]
abbrev dktX10_step_0 : List UInt8 := dkwX10_step_0 ++ dktX10_step_1
theorem dksX10_step_0 : cX10_step.data.toList.drop 0 = dktX10_step_0 := by decide +kernel
theorem dksX10_step_1 : cX10_step.data.toList.drop 24 = dktX10_step_1 := dk_seg dksX10_step_0 24 rfl rfl
theorem dksX10_step_2 : cX10_step.data.toList.drop 46 = dktX10_step_2 := dk_seg dksX10_step_1 22 rfl rfl
theorem dksX10_step_3 : cX10_step.data.toList.drop 69 = dktX10_step_3 := dk_seg dksX10_step_2 23 rfl rfl
theorem dksX10_step_4 : cX10_step.data.toList.drop 92 = dktX10_step_4 := dk_seg dksX10_step_3 23 rfl rfl
theorem dksX10_step_5 : cX10_step.data.toList.drop 116 = dktX10_step_5 := dk_seg dksX10_step_4 24 rfl rfl
theorem dksX10_step_6 : cX10_step.data.toList.drop 140 = dktX10_step_6 := dk_seg dksX10_step_5 24 rfl rfl
theorem dksX10_step_7 : cX10_step.data.toList.drop 162 = dktX10_step_7 := dk_seg dksX10_step_6 22 rfl rfl
theorem dksX10_step_8 : cX10_step.data.toList.drop 184 = dktX10_step_8 := dk_seg dksX10_step_7 22 rfl rfl
theorem dX10_step_0 : decode cX10_step 0 = .ok (.aload_n 0, 1) := dk_42 (dk_at dksX10_step_0 0 rfl rfl)
theorem dX10_step_1 : decode cX10_step 1 = .ok (.invokevirtual 33, 3) := dk_182 0 33 (dk_at dksX10_step_0 1 rfl rfl)
theorem dX10_step_4 : decode cX10_step 4 = .ok (.bipush 32, 2) := dk_16 32 (dk_at dksX10_step_0 4 rfl rfl)
theorem dX10_step_6 : decode cX10_step 6 = .ok (.if_icmp .ne 16, 3) := dk_160 0 16 (dk_at dksX10_step_0 6 rfl rfl)
theorem dX10_step_9 : decode cX10_step 9 = .ok (.aload_n 0, 1) := dk_42 (dk_at dksX10_step_0 9 rfl rfl)
theorem dX10_step_10 : decode cX10_step 10 = .ok (.dup, 1) := dk_89 (dk_at dksX10_step_0 10 rfl rfl)
theorem dX10_step_11 : decode cX10_step 11 = .ok (.getfield 22, 3) := dk_180 0 22 (dk_at dksX10_step_0 11 rfl rfl)
theorem dX10_step_14 : decode cX10_step 14 = .ok (.iconst 1, 1) := dk_4 (dk_at dksX10_step_0 14 rfl rfl)
theorem dX10_step_15 : decode cX10_step 15 = .ok (.iadd, 1) := dk_96 (dk_at dksX10_step_0 15 rfl rfl)
theorem dX10_step_16 : decode cX10_step 16 = .ok (.putfield 22, 3) := dk_181 0 22 (dk_at dksX10_step_0 16 rfl rfl)
theorem dX10_step_19 : decode cX10_step 19 = .ok (.goto (-19), 3) := dk_167 255 237 (dk_at dksX10_step_0 19 rfl rfl)
theorem dX10_step_22 : decode cX10_step 22 = .ok (.aload_n 0, 1) := dk_42 (dk_at dksX10_step_0 22 rfl rfl)
theorem dX10_step_23 : decode cX10_step 23 = .ok (.aload_n 0, 1) := dk_42 (dk_at dksX10_step_0 23 rfl rfl)
theorem dX10_step_24 : decode cX10_step 24 = .ok (.getfield 22, 3) := dk_180 0 22 (dk_at dksX10_step_1 0 rfl rfl)
theorem dX10_step_27 : decode cX10_step 27 = .ok (.putfield 37, 3) := dk_181 0 37 (dk_at dksX10_step_1 3 rfl rfl)
theorem dX10_step_30 : decode cX10_step 30 = .ok (.aload_n 0, 1) := dk_42 (dk_at dksX10_step_1 6 rfl rfl)
theorem dX10_step_31 : decode cX10_step 31 = .ok (.iconst 0, 1) := dk_3 (dk_at dksX10_step_1 7 rfl rfl)
theorem dX10_step_32 : decode cX10_step 32 = .ok (.putfield 40, 3) := dk_181 0 40 (dk_at dksX10_step_1 8 rfl rfl)
theorem dX10_step_35 : decode cX10_step 35 = .ok (.aload_n 0, 1) := dk_42 (dk_at dksX10_step_1 11 rfl rfl)
theorem dX10_step_36 : decode cX10_step 36 = .ok (.invokevirtual 33, 3) := dk_182 0 33 (dk_at dksX10_step_1 12 rfl rfl)
theorem dX10_step_39 : decode cX10_step 39 = .ok (.istore_n 1, 1) := dk_60 (dk_at dksX10_step_1 15 rfl rfl)
theorem dX10_step_40 : decode cX10_step 40 = .ok (.iload_n 1, 1) := dk_27 (dk_at dksX10_step_1 16 rfl rfl)
theorem dX10_step_41 : decode cX10_step 41 = .ok (.ifCond .ge 11, 3) := dk_156 0 11 (dk_at dksX10_step_1 17 rfl rfl)
theorem dX10_step_44 : decode cX10_step 44 = .ok (.aload_n 0, 1) := dk_42 (dk_at dksX10_step_1 20 rfl rfl)
theorem dX10_step_45 : decode cX10_step 45 = .ok (.iconst 5, 1) := dk_8 (dk_at dksX10_step_1 21 rfl rfl)
theorem dX10_step_46 : decode cX10_step 46 = .ok (.putfield 43, 3) := dk_181 0 43 (dk_at dksX10_step_2 0 rfl rfl)
theorem dX10_step_49 : decode cX10_step 49 = .ok (.goto 147, 3) := dk_167 0 147 (dk_at dksX10_step_2 3 rfl rfl)
theorem dX10_step_52 : decode cX10_step 52 = .ok (.iload_n 1, 1) := dk_27 (dk_at dksX10_step_2 6 rfl rfl)
theorem dX10_step_53 : decode cX10_step 53 = .ok (.bipush 48, 2) := dk_16 48 (dk_at dksX10_step_2 7 rfl rfl)
theorem dX10_step_55 : decode cX10_step 55 = .ok (.bipush 57, 2) := dk_16 57 (dk_at dksX10_step_2 9 rfl rfl)
theorem dX10_step_57 : decode cX10_step 57 = .ok (.invokestatic 46, 3) := dk_184 0 46 (dk_at dksX10_step_2 11 rfl rfl)
theorem dX10_step_60 : decode cX10_step 60 = .ok (.ifCond .eq 95, 3) := dk_153 0 95 (dk_at dksX10_step_2 14 rfl rfl)
theorem dX10_step_63 : decode cX10_step 63 = .ok (.aload_n 0, 1) := dk_42 (dk_at dksX10_step_2 17 rfl rfl)
theorem dX10_step_64 : decode cX10_step 64 = .ok (.invokevirtual 33, 3) := dk_182 0 33 (dk_at dksX10_step_2 18 rfl rfl)
theorem dX10_step_67 : decode cX10_step 67 = .ok (.bipush 48, 2) := dk_16 48 (dk_at dksX10_step_2 21 rfl rfl)
theorem dX10_step_69 : decode cX10_step 69 = .ok (.bipush 57, 2) := dk_16 57 (dk_at dksX10_step_3 0 rfl rfl)
theorem dX10_step_71 : decode cX10_step 71 = .ok (.invokestatic 46, 3) := dk_184 0 46 (dk_at dksX10_step_3 2 rfl rfl)
theorem dX10_step_74 : decode cX10_step 74 = .ok (.ifCond .eq 40, 3) := dk_153 0 40 (dk_at dksX10_step_3 5 rfl rfl)
theorem dX10_step_77 : decode cX10_step 77 = .ok (.aload_n 0, 1) := dk_42 (dk_at dksX10_step_3 8 rfl rfl)
theorem dX10_step_78 : decode cX10_step 78 = .ok (.bipush 100, 2) := dk_16 100 (dk_at dksX10_step_3 9 rfl rfl)
theorem dX10_step_80 : decode cX10_step 80 = .ok (.bipush 10, 2) := dk_16 10 (dk_at dksX10_step_3 11 rfl rfl)
theorem dX10_step_82 : decode cX10_step 82 = .ok (.aload_n 0, 1) := dk_42 (dk_at dksX10_step_3 13 rfl rfl)
theorem dX10_step_83 : decode cX10_step 83 = .ok (.getfield 40, 3) := dk_180 0 40 (dk_at dksX10_step_3 14 rfl rfl)
theorem dX10_step_86 : decode cX10_step 86 = .ok (.imul, 1) := dk_104 (dk_at dksX10_step_3 17 rfl rfl)
theorem dX10_step_87 : decode cX10_step 87 = .ok (.aload_n 0, 1) := dk_42 (dk_at dksX10_step_3 18 rfl rfl)
theorem dX10_step_88 : decode cX10_step 88 = .ok (.invokevirtual 33, 3) := dk_182 0 33 (dk_at dksX10_step_3 19 rfl rfl)
theorem dX10_step_91 : decode cX10_step 91 = .ok (.iadd, 1) := dk_96 (dk_at dksX10_step_3 22 rfl rfl)
theorem dX10_step_92 : decode cX10_step 92 = .ok (.bipush 48, 2) := dk_16 48 (dk_at dksX10_step_4 0 rfl rfl)
theorem dX10_step_94 : decode cX10_step 94 = .ok (.isub, 1) := dk_100 (dk_at dksX10_step_4 2 rfl rfl)
theorem dX10_step_95 : decode cX10_step 95 = .ok (.invokestatic 50, 3) := dk_184 0 50 (dk_at dksX10_step_4 3 rfl rfl)
theorem dX10_step_98 : decode cX10_step 98 = .ok (.putfield 40, 3) := dk_181 0 40 (dk_at dksX10_step_4 6 rfl rfl)
theorem dX10_step_101 : decode cX10_step 101 = .ok (.aload_n 0, 1) := dk_42 (dk_at dksX10_step_4 9 rfl rfl)
theorem dX10_step_102 : decode cX10_step 102 = .ok (.dup, 1) := dk_89 (dk_at dksX10_step_4 10 rfl rfl)
theorem dX10_step_103 : decode cX10_step 103 = .ok (.getfield 22, 3) := dk_180 0 22 (dk_at dksX10_step_4 11 rfl rfl)
theorem dX10_step_106 : decode cX10_step 106 = .ok (.iconst 1, 1) := dk_4 (dk_at dksX10_step_4 14 rfl rfl)
theorem dX10_step_107 : decode cX10_step 107 = .ok (.iadd, 1) := dk_96 (dk_at dksX10_step_4 15 rfl rfl)
theorem dX10_step_108 : decode cX10_step 108 = .ok (.putfield 22, 3) := dk_181 0 22 (dk_at dksX10_step_4 16 rfl rfl)
theorem dX10_step_111 : decode cX10_step 111 = .ok (.goto (-48), 3) := dk_167 255 208 (dk_at dksX10_step_4 19 rfl rfl)
theorem dX10_step_114 : decode cX10_step 114 = .ok (.aload_n 0, 1) := dk_42 (dk_at dksX10_step_4 22 rfl rfl)
theorem dX10_step_115 : decode cX10_step 115 = .ok (.aload_n 0, 1) := dk_42 (dk_at dksX10_step_4 23 rfl rfl)
theorem dX10_step_116 : decode cX10_step 116 = .ok (.getfield 40, 3) := dk_180 0 40 (dk_at dksX10_step_5 0 rfl rfl)
theorem dX10_step_119 : decode cX10_step 119 = .ok (.bipush 99, 2) := dk_16 99 (dk_at dksX10_step_5 3 rfl rfl)
theorem dX10_step_121 : decode cX10_step 121 = .ok (.if_icmp .gt 22, 3) := dk_163 0 22 (dk_at dksX10_step_5 5 rfl rfl)
theorem dX10_step_124 : decode cX10_step 124 = .ok (.iload_n 1, 1) := dk_27 (dk_at dksX10_step_5 8 rfl rfl)
theorem dX10_step_125 : decode cX10_step 125 = .ok (.bipush 48, 2) := dk_16 48 (dk_at dksX10_step_5 9 rfl rfl)
theorem dX10_step_127 : decode cX10_step 127 = .ok (.if_icmp .ne 21, 3) := dk_160 0 21 (dk_at dksX10_step_5 11 rfl rfl)
theorem dX10_step_130 : decode cX10_step 130 = .ok (.aload_n 0, 1) := dk_42 (dk_at dksX10_step_5 14 rfl rfl)
theorem dX10_step_131 : decode cX10_step 131 = .ok (.getfield 22, 3) := dk_180 0 22 (dk_at dksX10_step_5 15 rfl rfl)
theorem dX10_step_134 : decode cX10_step 134 = .ok (.aload_n 0, 1) := dk_42 (dk_at dksX10_step_5 18 rfl rfl)
theorem dX10_step_135 : decode cX10_step 135 = .ok (.getfield 37, 3) := dk_180 0 37 (dk_at dksX10_step_5 19 rfl rfl)
theorem dX10_step_138 : decode cX10_step 138 = .ok (.isub, 1) := dk_100 (dk_at dksX10_step_5 22 rfl rfl)
theorem dX10_step_139 : decode cX10_step 139 = .ok (.iconst 1, 1) := dk_4 (dk_at dksX10_step_5 23 rfl rfl)
theorem dX10_step_140 : decode cX10_step 140 = .ok (.if_icmp .le 8, 3) := dk_164 0 8 (dk_at dksX10_step_6 0 rfl rfl)
theorem dX10_step_143 : decode cX10_step 143 = .ok (.bipush 6, 2) := dk_16 6 (dk_at dksX10_step_6 3 rfl rfl)
theorem dX10_step_145 : decode cX10_step 145 = .ok (.goto 4, 3) := dk_167 0 4 (dk_at dksX10_step_6 5 rfl rfl)
theorem dX10_step_148 : decode cX10_step 148 = .ok (.iconst 3, 1) := dk_6 (dk_at dksX10_step_6 8 rfl rfl)
theorem dX10_step_149 : decode cX10_step 149 = .ok (.putfield 43, 3) := dk_181 0 43 (dk_at dksX10_step_6 9 rfl rfl)
theorem dX10_step_152 : decode cX10_step 152 = .ok (.goto 44, 3) := dk_167 0 44 (dk_at dksX10_step_6 12 rfl rfl)
theorem dX10_step_155 : decode cX10_step 155 = .ok (.aload_n 0, 1) := dk_42 (dk_at dksX10_step_6 15 rfl rfl)
theorem dX10_step_156 : decode cX10_step 156 = .ok (.dup, 1) := dk_89 (dk_at dksX10_step_6 16 rfl rfl)
theorem dX10_step_157 : decode cX10_step 157 = .ok (.getfield 22, 3) := dk_180 0 22 (dk_at dksX10_step_6 17 rfl rfl)
theorem dX10_step_160 : decode cX10_step 160 = .ok (.iconst 1, 1) := dk_4 (dk_at dksX10_step_6 20 rfl rfl)
theorem dX10_step_161 : decode cX10_step 161 = .ok (.iadd, 1) := dk_96 (dk_at dksX10_step_6 21 rfl rfl)
theorem dX10_step_162 : decode cX10_step 162 = .ok (.putfield 22, 3) := dk_181 0 22 (dk_at dksX10_step_7 0 rfl rfl)
theorem dX10_step_165 : decode cX10_step 165 = .ok (.ldc 56, 2) := dk_18 56 (dk_at dksX10_step_7 3 rfl rfl)
theorem dX10_step_167 : decode cX10_step 167 = .ok (.iload_n 1, 1) := dk_27 (dk_at dksX10_step_7 5 rfl rfl)
theorem dX10_step_168 : decode cX10_step 168 = .ok (.invokevirtual 58, 3) := dk_182 0 58 (dk_at dksX10_step_7 6 rfl rfl)
theorem dX10_step_171 : decode cX10_step 171 = .ok (.istore_n 2, 1) := dk_61 (dk_at dksX10_step_7 9 rfl rfl)
theorem dX10_step_172 : decode cX10_step 172 = .ok (.aload_n 0, 1) := dk_42 (dk_at dksX10_step_7 10 rfl rfl)
theorem dX10_step_173 : decode cX10_step 173 = .ok (.iload_n 1, 1) := dk_27 (dk_at dksX10_step_7 11 rfl rfl)
theorem dX10_step_174 : decode cX10_step 174 = .ok (.bipush 59, 2) := dk_16 59 (dk_at dksX10_step_7 12 rfl rfl)
theorem dX10_step_176 : decode cX10_step 176 = .ok (.if_icmp .ne 7, 3) := dk_160 0 7 (dk_at dksX10_step_7 14 rfl rfl)
theorem dX10_step_179 : decode cX10_step 179 = .ok (.iconst 4, 1) := dk_7 (dk_at dksX10_step_7 17 rfl rfl)
theorem dX10_step_180 : decode cX10_step 180 = .ok (.goto 13, 3) := dk_167 0 13 (dk_at dksX10_step_7 18 rfl rfl)
theorem dX10_step_183 : decode cX10_step 183 = .ok (.iload_n 2, 1) := dk_28 (dk_at dksX10_step_7 21 rfl rfl)
theorem dX10_step_184 : decode cX10_step 184 = .ok (.ifCond .lt 7, 3) := dk_155 0 7 (dk_at dksX10_step_8 0 rfl rfl)
theorem dX10_step_187 : decode cX10_step 187 = .ok (.iload_n 2, 1) := dk_28 (dk_at dksX10_step_8 3 rfl rfl)
theorem dX10_step_188 : decode cX10_step 188 = .ok (.goto 5, 3) := dk_167 0 5 (dk_at dksX10_step_8 4 rfl rfl)
theorem dX10_step_191 : decode cX10_step 191 = .ok (.bipush 6, 2) := dk_16 6 (dk_at dksX10_step_8 7 rfl rfl)
theorem dX10_step_193 : decode cX10_step 193 = .ok (.putfield 43, 3) := dk_181 0 43 (dk_at dksX10_step_8 9 rfl rfl)
theorem dX10_step_196 : decode cX10_step 196 = .ok (.return_, 1) := dk_177 (dk_at dksX10_step_8 12 rfl rfl)
abbrev cX10_here : ByteArray := prog_8_method_2_code
def yX10_here : MethodName := ⟨RX10, "here", "()I"⟩
def dkwX10_here_1 : List UInt8 := [180, 0, 22, 51, 17, 0, 255, 126, 167, 0, 4, 2, 172]
abbrev dktX10_here_1 : List UInt8 := dkwX10_here_1 ++ []
def dkwX10_here_0 : List UInt8 := [42, 180, 0, 22, 42, 180, 0, 3, 180, 0, 26, 162, 0, 22, 42, 180, 0, 3, 180, 0, 29, 42]
abbrev dktX10_here_0 : List UInt8 := dkwX10_here_0 ++ dktX10_here_1
theorem dksX10_here_0 : cX10_here.data.toList.drop 0 = dktX10_here_0 := by decide +kernel
theorem dksX10_here_1 : cX10_here.data.toList.drop 22 = dktX10_here_1 := dk_seg dksX10_here_0 22 rfl rfl
theorem dX10_here_0 : decode cX10_here 0 = .ok (.aload_n 0, 1) := dk_42 (dk_at dksX10_here_0 0 rfl rfl)
theorem dX10_here_1 : decode cX10_here 1 = .ok (.getfield 22, 3) := dk_180 0 22 (dk_at dksX10_here_0 1 rfl rfl)
theorem dX10_here_4 : decode cX10_here 4 = .ok (.aload_n 0, 1) := dk_42 (dk_at dksX10_here_0 4 rfl rfl)
theorem dX10_here_5 : decode cX10_here 5 = .ok (.getfield 3, 3) := dk_180 0 3 (dk_at dksX10_here_0 5 rfl rfl)
theorem dX10_here_8 : decode cX10_here 8 = .ok (.getfield 26, 3) := dk_180 0 26 (dk_at dksX10_here_0 8 rfl rfl)
theorem dX10_here_11 : decode cX10_here 11 = .ok (.if_icmp .ge 22, 3) := dk_162 0 22 (dk_at dksX10_here_0 11 rfl rfl)
theorem dX10_here_14 : decode cX10_here 14 = .ok (.aload_n 0, 1) := dk_42 (dk_at dksX10_here_0 14 rfl rfl)
theorem dX10_here_15 : decode cX10_here 15 = .ok (.getfield 3, 3) := dk_180 0 3 (dk_at dksX10_here_0 15 rfl rfl)
theorem dX10_here_18 : decode cX10_here 18 = .ok (.getfield 29, 3) := dk_180 0 29 (dk_at dksX10_here_0 18 rfl rfl)
theorem dX10_here_21 : decode cX10_here 21 = .ok (.aload_n 0, 1) := dk_42 (dk_at dksX10_here_0 21 rfl rfl)
theorem dX10_here_22 : decode cX10_here 22 = .ok (.getfield 22, 3) := dk_180 0 22 (dk_at dksX10_here_1 0 rfl rfl)
theorem dX10_here_25 : decode cX10_here 25 = .ok (.baload, 1) := dk_51 (dk_at dksX10_here_1 3 rfl rfl)
theorem dX10_here_26 : decode cX10_here 26 = .ok (.sipush 255, 3) := dk_17 0 255 (dk_at dksX10_here_1 4 rfl rfl)
theorem dX10_here_29 : decode cX10_here 29 = .ok (.iand, 1) := dk_126 (dk_at dksX10_here_1 7 rfl rfl)
theorem dX10_here_30 : decode cX10_here 30 = .ok (.goto 4, 3) := dk_167 0 4 (dk_at dksX10_here_1 8 rfl rfl)
theorem dX10_here_33 : decode cX10_here 33 = .ok (.iconst (-1), 1) := dk_2 (dk_at dksX10_here_1 11 rfl rfl)
theorem dX10_here_34 : decode cX10_here 34 = .ok (.ireturn, 1) := dk_172 (dk_at dksX10_here_1 12 rfl rfl)
abbrev cX10_may : ByteArray := prog_8_method_8_code
def yX10_may : MethodName := ⟨RX10, "may", "(I)Z"⟩
def dkwX10_may_3 : List UInt8 := [160, 0, 19, 42, 180, 0, 18, 180, 0, 102, 16, 6, 162, 0, 7, 4, 167, 0, 4, 3, 172]
abbrev dktX10_may_3 : List UInt8 := dkwX10_may_3 ++ []
def dkwX10_may_2 : List UInt8 := [42, 180, 0, 18, 180, 0, 76, 16, 6, 162, 0, 7, 4, 167, 0, 4, 3, 172, 4, 172, 27, 5]
abbrev dktX10_may_2 : List UInt8 := dkwX10_may_2 ++ dktX10_may_3
def dkwX10_may_1 : List UInt8 := [171, 0, 0, 0, 0, 0, 47, 0, 0, 0, 2, 0, 0, 0, 0, 0, 0, 0, 27, 0, 0, 0, 1, 0, 0, 0, 45]
abbrev dktX10_may_1 : List UInt8 := dkwX10_may_1 ++ dktX10_may_2
def dkwX10_may_0 : List UInt8 := [27]
abbrev dktX10_may_0 : List UInt8 := dkwX10_may_0 ++ dktX10_may_1
theorem dksX10_may_0 : cX10_may.data.toList.drop 0 = dktX10_may_0 := by decide +kernel
theorem dksX10_may_1 : cX10_may.data.toList.drop 1 = dktX10_may_1 := dk_seg dksX10_may_0 1 rfl rfl
theorem dksX10_may_2 : cX10_may.data.toList.drop 28 = dktX10_may_2 := dk_seg dksX10_may_1 27 rfl rfl
theorem dksX10_may_3 : cX10_may.data.toList.drop 50 = dktX10_may_3 := dk_seg dksX10_may_2 22 rfl rfl
theorem dX10_may_0 : decode cX10_may 0 = .ok (.iload_n 1, 1) := dk_27 (dk_at dksX10_may_0 0 rfl rfl)
theorem dX10_may_1 : decode cX10_may 1 = .ok (.lookupswitch 47 #[(0, 27), (1, 45)], 27) := by decide +kernel
theorem dX10_may_28 : decode cX10_may 28 = .ok (.aload_n 0, 1) := dk_42 (dk_at dksX10_may_2 0 rfl rfl)
theorem dX10_may_29 : decode cX10_may 29 = .ok (.getfield 18, 3) := dk_180 0 18 (dk_at dksX10_may_2 1 rfl rfl)
theorem dX10_may_32 : decode cX10_may 32 = .ok (.getfield 76, 3) := dk_180 0 76 (dk_at dksX10_may_2 4 rfl rfl)
theorem dX10_may_35 : decode cX10_may 35 = .ok (.bipush 6, 2) := dk_16 6 (dk_at dksX10_may_2 7 rfl rfl)
theorem dX10_may_37 : decode cX10_may 37 = .ok (.if_icmp .ge 7, 3) := dk_162 0 7 (dk_at dksX10_may_2 9 rfl rfl)
theorem dX10_may_40 : decode cX10_may 40 = .ok (.iconst 1, 1) := dk_4 (dk_at dksX10_may_2 12 rfl rfl)
theorem dX10_may_41 : decode cX10_may 41 = .ok (.goto 4, 3) := dk_167 0 4 (dk_at dksX10_may_2 13 rfl rfl)
theorem dX10_may_44 : decode cX10_may 44 = .ok (.iconst 0, 1) := dk_3 (dk_at dksX10_may_2 16 rfl rfl)
theorem dX10_may_45 : decode cX10_may 45 = .ok (.ireturn, 1) := dk_172 (dk_at dksX10_may_2 17 rfl rfl)
theorem dX10_may_46 : decode cX10_may 46 = .ok (.iconst 1, 1) := dk_4 (dk_at dksX10_may_2 18 rfl rfl)
theorem dX10_may_47 : decode cX10_may 47 = .ok (.ireturn, 1) := dk_172 (dk_at dksX10_may_2 19 rfl rfl)
theorem dX10_may_48 : decode cX10_may 48 = .ok (.iload_n 1, 1) := dk_27 (dk_at dksX10_may_2 20 rfl rfl)
theorem dX10_may_49 : decode cX10_may 49 = .ok (.iconst 2, 1) := dk_5 (dk_at dksX10_may_2 21 rfl rfl)
theorem dX10_may_50 : decode cX10_may 50 = .ok (.if_icmp .ne 19, 3) := dk_160 0 19 (dk_at dksX10_may_3 0 rfl rfl)
theorem dX10_may_53 : decode cX10_may 53 = .ok (.aload_n 0, 1) := dk_42 (dk_at dksX10_may_3 3 rfl rfl)
theorem dX10_may_54 : decode cX10_may 54 = .ok (.getfield 18, 3) := dk_180 0 18 (dk_at dksX10_may_3 4 rfl rfl)
theorem dX10_may_57 : decode cX10_may 57 = .ok (.getfield 102, 3) := dk_180 0 102 (dk_at dksX10_may_3 7 rfl rfl)
theorem dX10_may_60 : decode cX10_may 60 = .ok (.bipush 6, 2) := dk_16 6 (dk_at dksX10_may_3 10 rfl rfl)
theorem dX10_may_62 : decode cX10_may 62 = .ok (.if_icmp .ge 7, 3) := dk_162 0 7 (dk_at dksX10_may_3 12 rfl rfl)
theorem dX10_may_65 : decode cX10_may 65 = .ok (.iconst 1, 1) := dk_4 (dk_at dksX10_may_3 15 rfl rfl)
theorem dX10_may_66 : decode cX10_may 66 = .ok (.goto 4, 3) := dk_167 0 4 (dk_at dksX10_may_3 16 rfl rfl)
theorem dX10_may_69 : decode cX10_may 69 = .ok (.iconst 0, 1) := dk_3 (dk_at dksX10_may_3 19 rfl rfl)
theorem dX10_may_70 : decode cX10_may 70 = .ok (.ireturn, 1) := dk_172 (dk_at dksX10_may_3 20 rfl rfl)
abbrev cX10_due : ByteArray := prog_8_method_4_code
def yX10_due : MethodName := ⟨RX10, "due", "(Z)I"⟩
def dkwX10_due_1 : List UInt8 := [182, 0, 69, 28, 172]
abbrev dktX10_due_1 : List UInt8 := dkwX10_due_1 ++ []
def dkwX10_due_0 : List UInt8 := [27, 154, 0, 15, 187, 0, 64, 89, 42, 180, 0, 37, 183, 0, 66, 191, 42, 180, 0, 40, 61, 42]
abbrev dktX10_due_0 : List UInt8 := dkwX10_due_0 ++ dktX10_due_1
theorem dksX10_due_0 : cX10_due.data.toList.drop 0 = dktX10_due_0 := by decide +kernel
theorem dksX10_due_1 : cX10_due.data.toList.drop 22 = dktX10_due_1 := dk_seg dksX10_due_0 22 rfl rfl
theorem dX10_due_0 : decode cX10_due 0 = .ok (.iload_n 1, 1) := dk_27 (dk_at dksX10_due_0 0 rfl rfl)
theorem dX10_due_1 : decode cX10_due 1 = .ok (.ifCond .ne 15, 3) := dk_154 0 15 (dk_at dksX10_due_0 1 rfl rfl)
theorem dX10_due_4 : decode cX10_due 4 = .ok (.new 64, 3) := dk_187 0 64 (dk_at dksX10_due_0 4 rfl rfl)
theorem dX10_due_7 : decode cX10_due 7 = .ok (.dup, 1) := dk_89 (dk_at dksX10_due_0 7 rfl rfl)
theorem dX10_due_8 : decode cX10_due 8 = .ok (.aload_n 0, 1) := dk_42 (dk_at dksX10_due_0 8 rfl rfl)
theorem dX10_due_9 : decode cX10_due 9 = .ok (.getfield 37, 3) := dk_180 0 37 (dk_at dksX10_due_0 9 rfl rfl)
theorem dX10_due_12 : decode cX10_due 12 = .ok (.invokespecial 66, 3) := dk_183 0 66 (dk_at dksX10_due_0 12 rfl rfl)
theorem dX10_due_15 : decode cX10_due 15 = .ok (.athrow, 1) := dk_191 (dk_at dksX10_due_0 15 rfl rfl)
theorem dX10_due_16 : decode cX10_due 16 = .ok (.aload_n 0, 1) := dk_42 (dk_at dksX10_due_0 16 rfl rfl)
theorem dX10_due_17 : decode cX10_due 17 = .ok (.getfield 40, 3) := dk_180 0 40 (dk_at dksX10_due_0 17 rfl rfl)
theorem dX10_due_20 : decode cX10_due 20 = .ok (.istore_n 2, 1) := dk_61 (dk_at dksX10_due_0 20 rfl rfl)
theorem dX10_due_21 : decode cX10_due 21 = .ok (.aload_n 0, 1) := dk_42 (dk_at dksX10_due_0 21 rfl rfl)
theorem dX10_due_22 : decode cX10_due 22 = .ok (.invokevirtual 69, 3) := dk_182 0 69 (dk_at dksX10_due_1 0 rfl rfl)
theorem dX10_due_25 : decode cX10_due 25 = .ok (.iload_n 2, 1) := dk_28 (dk_at dksX10_due_1 3 rfl rfl)
theorem dX10_due_26 : decode cX10_due 26 = .ok (.ireturn, 1) := dk_172 (dk_at dksX10_due_1 4 rfl rfl)
abbrev cX10_item : ByteArray := prog_8_method_7_code
def yX10_item : MethodName := ⟨RX10, "item", "(I)V"⟩
def dkwX10_item_12 : List UInt8 := [182, 0, 79, 79, 42, 180, 0, 18, 89, 180, 0, 102, 4, 96, 181, 0, 102, 177]
abbrev dktX10_item_12 : List UInt8 := dkwX10_item_12 ++ []
def dkwX10_item_11 : List UInt8 := [182, 0, 92, 79, 42, 180, 0, 18, 180, 0, 108, 42, 180, 0, 18, 180, 0, 102, 42, 3, 16, 60]
abbrev dktX10_item_11 : List UInt8 := dkwX10_item_11 ++ dktX10_item_12
def dkwX10_item_10 : List UInt8 := [180, 0, 102, 42, 182, 0, 92, 79, 42, 180, 0, 18, 180, 0, 105, 42, 180, 0, 18, 180, 0, 102, 42]
abbrev dktX10_item_10 : List UInt8 := dkwX10_item_10 ++ dktX10_item_11
def dkwX10_item_9 : List UInt8 := [180, 0, 95, 28, 50, 29, 46, 79, 167, 0, 76, 42, 180, 0, 18, 180, 0, 99, 42, 180, 0, 18]
abbrev dktX10_item_9 : List UInt8 := dkwX10_item_9 ++ dktX10_item_10
def dkwX10_item_8 : List UInt8 := [50, 29, 42, 4, 16, 9, 182, 0, 79, 79, 42, 180, 0, 18, 180, 0, 95, 29, 50, 28, 42, 180, 0, 18]
abbrev dktX10_item_8 : List UInt8 := dkwX10_item_8 ++ dktX10_item_9
def dkwX10_item_7 : List UInt8 := [180, 0, 40, 28, 159, 0, 7, 4, 167, 0, 4, 3, 182, 0, 72, 62, 42, 180, 0, 18, 180, 0, 95, 28]
abbrev dktX10_item_7 : List UInt8 := dkwX10_item_7 ++ dktX10_item_8
def dkwX10_item_6 : List UInt8 := [180, 0, 43, 6, 160, 0, 29, 42, 180, 0, 40, 42, 180, 0, 18, 180, 0, 76, 162, 0, 15, 42]
abbrev dktX10_item_6 : List UInt8 := dkwX10_item_6 ++ dktX10_item_7
def dkwX10_item_5 : List UInt8 := [180, 0, 18, 89, 180, 0, 76, 4, 96, 181, 0, 76, 167, 0, 164, 42, 182, 0, 92, 61, 42, 42]
abbrev dktX10_item_5 : List UInt8 := dkwX10_item_5 ++ dktX10_item_6
def dkwX10_item_4 : List UInt8 := [180, 0, 18, 180, 0, 89, 42, 180, 0, 18, 180, 0, 76, 42, 3, 16, 6, 182, 0, 79, 79, 42]
abbrev dktX10_item_4 : List UInt8 := dkwX10_item_4 ++ dktX10_item_5
def dkwX10_item_3 : List UInt8 := [180, 0, 18, 180, 0, 86, 42, 180, 0, 18, 180, 0, 76, 42, 4, 16, 99, 182, 0, 79, 79, 42]
abbrev dktX10_item_3 : List UInt8 := dkwX10_item_3 ++ dktX10_item_4
def dkwX10_item_2 : List UInt8 := [42, 180, 0, 18, 180, 0, 82, 42, 180, 0, 18, 180, 0, 76, 42, 4, 16, 99, 182, 0, 79, 79, 42]
abbrev dktX10_item_2 : List UInt8 := dkwX10_item_2 ++ dktX10_item_3
def dkwX10_item_1 : List UInt8 := [171, 0, 0, 0, 0, 0, 197, 0, 0, 0, 2, 0, 0, 0, 0, 0, 0, 0, 27, 0, 0, 0, 1, 0, 0, 0, 109]
abbrev dktX10_item_1 : List UInt8 := dkwX10_item_1 ++ dktX10_item_2
def dkwX10_item_0 : List UInt8 := [27]
abbrev dktX10_item_0 : List UInt8 := dkwX10_item_0 ++ dktX10_item_1
theorem dksX10_item_0 : cX10_item.data.toList.drop 0 = dktX10_item_0 := by decide +kernel
theorem dksX10_item_1 : cX10_item.data.toList.drop 1 = dktX10_item_1 := dk_seg dksX10_item_0 1 rfl rfl
theorem dksX10_item_2 : cX10_item.data.toList.drop 28 = dktX10_item_2 := dk_seg dksX10_item_1 27 rfl rfl
theorem dksX10_item_3 : cX10_item.data.toList.drop 51 = dktX10_item_3 := dk_seg dksX10_item_2 23 rfl rfl
theorem dksX10_item_4 : cX10_item.data.toList.drop 73 = dktX10_item_4 := dk_seg dksX10_item_3 22 rfl rfl
theorem dksX10_item_5 : cX10_item.data.toList.drop 95 = dktX10_item_5 := dk_seg dksX10_item_4 22 rfl rfl
theorem dksX10_item_6 : cX10_item.data.toList.drop 117 = dktX10_item_6 := dk_seg dksX10_item_5 22 rfl rfl
theorem dksX10_item_7 : cX10_item.data.toList.drop 139 = dktX10_item_7 := dk_seg dksX10_item_6 22 rfl rfl
theorem dksX10_item_8 : cX10_item.data.toList.drop 163 = dktX10_item_8 := dk_seg dksX10_item_7 24 rfl rfl
theorem dksX10_item_9 : cX10_item.data.toList.drop 187 = dktX10_item_9 := dk_seg dksX10_item_8 24 rfl rfl
theorem dksX10_item_10 : cX10_item.data.toList.drop 209 = dktX10_item_10 := dk_seg dksX10_item_9 22 rfl rfl
theorem dksX10_item_11 : cX10_item.data.toList.drop 232 = dktX10_item_11 := dk_seg dksX10_item_10 23 rfl rfl
theorem dksX10_item_12 : cX10_item.data.toList.drop 254 = dktX10_item_12 := dk_seg dksX10_item_11 22 rfl rfl
theorem dX10_item_0 : decode cX10_item 0 = .ok (.iload_n 1, 1) := dk_27 (dk_at dksX10_item_0 0 rfl rfl)
theorem dX10_item_1 : decode cX10_item 1 = .ok (.lookupswitch 197 #[(0, 27), (1, 109)], 27) := by decide +kernel
theorem dX10_item_28 : decode cX10_item 28 = .ok (.aload_n 0, 1) := dk_42 (dk_at dksX10_item_2 0 rfl rfl)
theorem dX10_item_29 : decode cX10_item 29 = .ok (.getfield 18, 3) := dk_180 0 18 (dk_at dksX10_item_2 1 rfl rfl)
theorem dX10_item_32 : decode cX10_item 32 = .ok (.getfield 82, 3) := dk_180 0 82 (dk_at dksX10_item_2 4 rfl rfl)
theorem dX10_item_35 : decode cX10_item 35 = .ok (.aload_n 0, 1) := dk_42 (dk_at dksX10_item_2 7 rfl rfl)
theorem dX10_item_36 : decode cX10_item 36 = .ok (.getfield 18, 3) := dk_180 0 18 (dk_at dksX10_item_2 8 rfl rfl)
theorem dX10_item_39 : decode cX10_item 39 = .ok (.getfield 76, 3) := dk_180 0 76 (dk_at dksX10_item_2 11 rfl rfl)
theorem dX10_item_42 : decode cX10_item 42 = .ok (.aload_n 0, 1) := dk_42 (dk_at dksX10_item_2 14 rfl rfl)
theorem dX10_item_43 : decode cX10_item 43 = .ok (.iconst 1, 1) := dk_4 (dk_at dksX10_item_2 15 rfl rfl)
theorem dX10_item_44 : decode cX10_item 44 = .ok (.bipush 99, 2) := dk_16 99 (dk_at dksX10_item_2 16 rfl rfl)
theorem dX10_item_46 : decode cX10_item 46 = .ok (.invokevirtual 79, 3) := dk_182 0 79 (dk_at dksX10_item_2 18 rfl rfl)
theorem dX10_item_49 : decode cX10_item 49 = .ok (.iastore, 1) := dk_79 (dk_at dksX10_item_2 21 rfl rfl)
theorem dX10_item_50 : decode cX10_item 50 = .ok (.aload_n 0, 1) := dk_42 (dk_at dksX10_item_2 22 rfl rfl)
theorem dX10_item_51 : decode cX10_item 51 = .ok (.getfield 18, 3) := dk_180 0 18 (dk_at dksX10_item_3 0 rfl rfl)
theorem dX10_item_54 : decode cX10_item 54 = .ok (.getfield 86, 3) := dk_180 0 86 (dk_at dksX10_item_3 3 rfl rfl)
theorem dX10_item_57 : decode cX10_item 57 = .ok (.aload_n 0, 1) := dk_42 (dk_at dksX10_item_3 6 rfl rfl)
theorem dX10_item_58 : decode cX10_item 58 = .ok (.getfield 18, 3) := dk_180 0 18 (dk_at dksX10_item_3 7 rfl rfl)
theorem dX10_item_61 : decode cX10_item 61 = .ok (.getfield 76, 3) := dk_180 0 76 (dk_at dksX10_item_3 10 rfl rfl)
theorem dX10_item_64 : decode cX10_item 64 = .ok (.aload_n 0, 1) := dk_42 (dk_at dksX10_item_3 13 rfl rfl)
theorem dX10_item_65 : decode cX10_item 65 = .ok (.iconst 1, 1) := dk_4 (dk_at dksX10_item_3 14 rfl rfl)
theorem dX10_item_66 : decode cX10_item 66 = .ok (.bipush 99, 2) := dk_16 99 (dk_at dksX10_item_3 15 rfl rfl)
theorem dX10_item_68 : decode cX10_item 68 = .ok (.invokevirtual 79, 3) := dk_182 0 79 (dk_at dksX10_item_3 17 rfl rfl)
theorem dX10_item_71 : decode cX10_item 71 = .ok (.iastore, 1) := dk_79 (dk_at dksX10_item_3 20 rfl rfl)
theorem dX10_item_72 : decode cX10_item 72 = .ok (.aload_n 0, 1) := dk_42 (dk_at dksX10_item_3 21 rfl rfl)
theorem dX10_item_73 : decode cX10_item 73 = .ok (.getfield 18, 3) := dk_180 0 18 (dk_at dksX10_item_4 0 rfl rfl)
theorem dX10_item_76 : decode cX10_item 76 = .ok (.getfield 89, 3) := dk_180 0 89 (dk_at dksX10_item_4 3 rfl rfl)
theorem dX10_item_79 : decode cX10_item 79 = .ok (.aload_n 0, 1) := dk_42 (dk_at dksX10_item_4 6 rfl rfl)
theorem dX10_item_80 : decode cX10_item 80 = .ok (.getfield 18, 3) := dk_180 0 18 (dk_at dksX10_item_4 7 rfl rfl)
theorem dX10_item_83 : decode cX10_item 83 = .ok (.getfield 76, 3) := dk_180 0 76 (dk_at dksX10_item_4 10 rfl rfl)
theorem dX10_item_86 : decode cX10_item 86 = .ok (.aload_n 0, 1) := dk_42 (dk_at dksX10_item_4 13 rfl rfl)
theorem dX10_item_87 : decode cX10_item 87 = .ok (.iconst 0, 1) := dk_3 (dk_at dksX10_item_4 14 rfl rfl)
theorem dX10_item_88 : decode cX10_item 88 = .ok (.bipush 6, 2) := dk_16 6 (dk_at dksX10_item_4 15 rfl rfl)
theorem dX10_item_90 : decode cX10_item 90 = .ok (.invokevirtual 79, 3) := dk_182 0 79 (dk_at dksX10_item_4 17 rfl rfl)
theorem dX10_item_93 : decode cX10_item 93 = .ok (.iastore, 1) := dk_79 (dk_at dksX10_item_4 20 rfl rfl)
theorem dX10_item_94 : decode cX10_item 94 = .ok (.aload_n 0, 1) := dk_42 (dk_at dksX10_item_4 21 rfl rfl)
theorem dX10_item_95 : decode cX10_item 95 = .ok (.getfield 18, 3) := dk_180 0 18 (dk_at dksX10_item_5 0 rfl rfl)
theorem dX10_item_98 : decode cX10_item 98 = .ok (.dup, 1) := dk_89 (dk_at dksX10_item_5 3 rfl rfl)
theorem dX10_item_99 : decode cX10_item 99 = .ok (.getfield 76, 3) := dk_180 0 76 (dk_at dksX10_item_5 4 rfl rfl)
theorem dX10_item_102 : decode cX10_item 102 = .ok (.iconst 1, 1) := dk_4 (dk_at dksX10_item_5 7 rfl rfl)
theorem dX10_item_103 : decode cX10_item 103 = .ok (.iadd, 1) := dk_96 (dk_at dksX10_item_5 8 rfl rfl)
theorem dX10_item_104 : decode cX10_item 104 = .ok (.putfield 76, 3) := dk_181 0 76 (dk_at dksX10_item_5 9 rfl rfl)
theorem dX10_item_107 : decode cX10_item 107 = .ok (.goto 164, 3) := dk_167 0 164 (dk_at dksX10_item_5 12 rfl rfl)
theorem dX10_item_110 : decode cX10_item 110 = .ok (.aload_n 0, 1) := dk_42 (dk_at dksX10_item_5 15 rfl rfl)
theorem dX10_item_111 : decode cX10_item 111 = .ok (.invokevirtual 92, 3) := dk_182 0 92 (dk_at dksX10_item_5 16 rfl rfl)
theorem dX10_item_114 : decode cX10_item 114 = .ok (.istore_n 2, 1) := dk_61 (dk_at dksX10_item_5 19 rfl rfl)
theorem dX10_item_115 : decode cX10_item 115 = .ok (.aload_n 0, 1) := dk_42 (dk_at dksX10_item_5 20 rfl rfl)
theorem dX10_item_116 : decode cX10_item 116 = .ok (.aload_n 0, 1) := dk_42 (dk_at dksX10_item_5 21 rfl rfl)
theorem dX10_item_117 : decode cX10_item 117 = .ok (.getfield 43, 3) := dk_180 0 43 (dk_at dksX10_item_6 0 rfl rfl)
theorem dX10_item_120 : decode cX10_item 120 = .ok (.iconst 3, 1) := dk_6 (dk_at dksX10_item_6 3 rfl rfl)
theorem dX10_item_121 : decode cX10_item 121 = .ok (.if_icmp .ne 29, 3) := dk_160 0 29 (dk_at dksX10_item_6 4 rfl rfl)
theorem dX10_item_124 : decode cX10_item 124 = .ok (.aload_n 0, 1) := dk_42 (dk_at dksX10_item_6 7 rfl rfl)
theorem dX10_item_125 : decode cX10_item 125 = .ok (.getfield 40, 3) := dk_180 0 40 (dk_at dksX10_item_6 8 rfl rfl)
theorem dX10_item_128 : decode cX10_item 128 = .ok (.aload_n 0, 1) := dk_42 (dk_at dksX10_item_6 11 rfl rfl)
theorem dX10_item_129 : decode cX10_item 129 = .ok (.getfield 18, 3) := dk_180 0 18 (dk_at dksX10_item_6 12 rfl rfl)
theorem dX10_item_132 : decode cX10_item 132 = .ok (.getfield 76, 3) := dk_180 0 76 (dk_at dksX10_item_6 15 rfl rfl)
theorem dX10_item_135 : decode cX10_item 135 = .ok (.if_icmp .ge 15, 3) := dk_162 0 15 (dk_at dksX10_item_6 18 rfl rfl)
theorem dX10_item_138 : decode cX10_item 138 = .ok (.aload_n 0, 1) := dk_42 (dk_at dksX10_item_6 21 rfl rfl)
theorem dX10_item_139 : decode cX10_item 139 = .ok (.getfield 40, 3) := dk_180 0 40 (dk_at dksX10_item_7 0 rfl rfl)
theorem dX10_item_142 : decode cX10_item 142 = .ok (.iload_n 2, 1) := dk_28 (dk_at dksX10_item_7 3 rfl rfl)
theorem dX10_item_143 : decode cX10_item 143 = .ok (.if_icmp .eq 7, 3) := dk_159 0 7 (dk_at dksX10_item_7 4 rfl rfl)
theorem dX10_item_146 : decode cX10_item 146 = .ok (.iconst 1, 1) := dk_4 (dk_at dksX10_item_7 7 rfl rfl)
theorem dX10_item_147 : decode cX10_item 147 = .ok (.goto 4, 3) := dk_167 0 4 (dk_at dksX10_item_7 8 rfl rfl)
theorem dX10_item_150 : decode cX10_item 150 = .ok (.iconst 0, 1) := dk_3 (dk_at dksX10_item_7 11 rfl rfl)
theorem dX10_item_151 : decode cX10_item 151 = .ok (.invokevirtual 72, 3) := dk_182 0 72 (dk_at dksX10_item_7 12 rfl rfl)
theorem dX10_item_154 : decode cX10_item 154 = .ok (.istore_n 3, 1) := dk_62 (dk_at dksX10_item_7 15 rfl rfl)
theorem dX10_item_155 : decode cX10_item 155 = .ok (.aload_n 0, 1) := dk_42 (dk_at dksX10_item_7 16 rfl rfl)
theorem dX10_item_156 : decode cX10_item 156 = .ok (.getfield 18, 3) := dk_180 0 18 (dk_at dksX10_item_7 17 rfl rfl)
theorem dX10_item_159 : decode cX10_item 159 = .ok (.getfield 95, 3) := dk_180 0 95 (dk_at dksX10_item_7 20 rfl rfl)
theorem dX10_item_162 : decode cX10_item 162 = .ok (.iload_n 2, 1) := dk_28 (dk_at dksX10_item_7 23 rfl rfl)
theorem dX10_item_163 : decode cX10_item 163 = .ok (.aaload, 1) := dk_50 (dk_at dksX10_item_8 0 rfl rfl)
theorem dX10_item_164 : decode cX10_item 164 = .ok (.iload_n 3, 1) := dk_29 (dk_at dksX10_item_8 1 rfl rfl)
theorem dX10_item_165 : decode cX10_item 165 = .ok (.aload_n 0, 1) := dk_42 (dk_at dksX10_item_8 2 rfl rfl)
theorem dX10_item_166 : decode cX10_item 166 = .ok (.iconst 1, 1) := dk_4 (dk_at dksX10_item_8 3 rfl rfl)
theorem dX10_item_167 : decode cX10_item 167 = .ok (.bipush 9, 2) := dk_16 9 (dk_at dksX10_item_8 4 rfl rfl)
theorem dX10_item_169 : decode cX10_item 169 = .ok (.invokevirtual 79, 3) := dk_182 0 79 (dk_at dksX10_item_8 6 rfl rfl)
theorem dX10_item_172 : decode cX10_item 172 = .ok (.iastore, 1) := dk_79 (dk_at dksX10_item_8 9 rfl rfl)
theorem dX10_item_173 : decode cX10_item 173 = .ok (.aload_n 0, 1) := dk_42 (dk_at dksX10_item_8 10 rfl rfl)
theorem dX10_item_174 : decode cX10_item 174 = .ok (.getfield 18, 3) := dk_180 0 18 (dk_at dksX10_item_8 11 rfl rfl)
theorem dX10_item_177 : decode cX10_item 177 = .ok (.getfield 95, 3) := dk_180 0 95 (dk_at dksX10_item_8 14 rfl rfl)
theorem dX10_item_180 : decode cX10_item 180 = .ok (.iload_n 3, 1) := dk_29 (dk_at dksX10_item_8 17 rfl rfl)
theorem dX10_item_181 : decode cX10_item 181 = .ok (.aaload, 1) := dk_50 (dk_at dksX10_item_8 18 rfl rfl)
theorem dX10_item_182 : decode cX10_item 182 = .ok (.iload_n 2, 1) := dk_28 (dk_at dksX10_item_8 19 rfl rfl)
theorem dX10_item_183 : decode cX10_item 183 = .ok (.aload_n 0, 1) := dk_42 (dk_at dksX10_item_8 20 rfl rfl)
theorem dX10_item_184 : decode cX10_item 184 = .ok (.getfield 18, 3) := dk_180 0 18 (dk_at dksX10_item_8 21 rfl rfl)
theorem dX10_item_187 : decode cX10_item 187 = .ok (.getfield 95, 3) := dk_180 0 95 (dk_at dksX10_item_9 0 rfl rfl)
theorem dX10_item_190 : decode cX10_item 190 = .ok (.iload_n 2, 1) := dk_28 (dk_at dksX10_item_9 3 rfl rfl)
theorem dX10_item_191 : decode cX10_item 191 = .ok (.aaload, 1) := dk_50 (dk_at dksX10_item_9 4 rfl rfl)
theorem dX10_item_192 : decode cX10_item 192 = .ok (.iload_n 3, 1) := dk_29 (dk_at dksX10_item_9 5 rfl rfl)
theorem dX10_item_193 : decode cX10_item 193 = .ok (.iaload, 1) := dk_46 (dk_at dksX10_item_9 6 rfl rfl)
theorem dX10_item_194 : decode cX10_item 194 = .ok (.iastore, 1) := dk_79 (dk_at dksX10_item_9 7 rfl rfl)
theorem dX10_item_195 : decode cX10_item 195 = .ok (.goto 76, 3) := dk_167 0 76 (dk_at dksX10_item_9 8 rfl rfl)
theorem dX10_item_198 : decode cX10_item 198 = .ok (.aload_n 0, 1) := dk_42 (dk_at dksX10_item_9 11 rfl rfl)
theorem dX10_item_199 : decode cX10_item 199 = .ok (.getfield 18, 3) := dk_180 0 18 (dk_at dksX10_item_9 12 rfl rfl)
theorem dX10_item_202 : decode cX10_item 202 = .ok (.getfield 99, 3) := dk_180 0 99 (dk_at dksX10_item_9 15 rfl rfl)
theorem dX10_item_205 : decode cX10_item 205 = .ok (.aload_n 0, 1) := dk_42 (dk_at dksX10_item_9 18 rfl rfl)
theorem dX10_item_206 : decode cX10_item 206 = .ok (.getfield 18, 3) := dk_180 0 18 (dk_at dksX10_item_9 19 rfl rfl)
theorem dX10_item_209 : decode cX10_item 209 = .ok (.getfield 102, 3) := dk_180 0 102 (dk_at dksX10_item_10 0 rfl rfl)
theorem dX10_item_212 : decode cX10_item 212 = .ok (.aload_n 0, 1) := dk_42 (dk_at dksX10_item_10 3 rfl rfl)
theorem dX10_item_213 : decode cX10_item 213 = .ok (.invokevirtual 92, 3) := dk_182 0 92 (dk_at dksX10_item_10 4 rfl rfl)
theorem dX10_item_216 : decode cX10_item 216 = .ok (.iastore, 1) := dk_79 (dk_at dksX10_item_10 7 rfl rfl)
theorem dX10_item_217 : decode cX10_item 217 = .ok (.aload_n 0, 1) := dk_42 (dk_at dksX10_item_10 8 rfl rfl)
theorem dX10_item_218 : decode cX10_item 218 = .ok (.getfield 18, 3) := dk_180 0 18 (dk_at dksX10_item_10 9 rfl rfl)
theorem dX10_item_221 : decode cX10_item 221 = .ok (.getfield 105, 3) := dk_180 0 105 (dk_at dksX10_item_10 12 rfl rfl)
theorem dX10_item_224 : decode cX10_item 224 = .ok (.aload_n 0, 1) := dk_42 (dk_at dksX10_item_10 15 rfl rfl)
theorem dX10_item_225 : decode cX10_item 225 = .ok (.getfield 18, 3) := dk_180 0 18 (dk_at dksX10_item_10 16 rfl rfl)
theorem dX10_item_228 : decode cX10_item 228 = .ok (.getfield 102, 3) := dk_180 0 102 (dk_at dksX10_item_10 19 rfl rfl)
theorem dX10_item_231 : decode cX10_item 231 = .ok (.aload_n 0, 1) := dk_42 (dk_at dksX10_item_10 22 rfl rfl)
theorem dX10_item_232 : decode cX10_item 232 = .ok (.invokevirtual 92, 3) := dk_182 0 92 (dk_at dksX10_item_11 0 rfl rfl)
theorem dX10_item_235 : decode cX10_item 235 = .ok (.iastore, 1) := dk_79 (dk_at dksX10_item_11 3 rfl rfl)
theorem dX10_item_236 : decode cX10_item 236 = .ok (.aload_n 0, 1) := dk_42 (dk_at dksX10_item_11 4 rfl rfl)
theorem dX10_item_237 : decode cX10_item 237 = .ok (.getfield 18, 3) := dk_180 0 18 (dk_at dksX10_item_11 5 rfl rfl)
theorem dX10_item_240 : decode cX10_item 240 = .ok (.getfield 108, 3) := dk_180 0 108 (dk_at dksX10_item_11 8 rfl rfl)
theorem dX10_item_243 : decode cX10_item 243 = .ok (.aload_n 0, 1) := dk_42 (dk_at dksX10_item_11 11 rfl rfl)
theorem dX10_item_244 : decode cX10_item 244 = .ok (.getfield 18, 3) := dk_180 0 18 (dk_at dksX10_item_11 12 rfl rfl)
theorem dX10_item_247 : decode cX10_item 247 = .ok (.getfield 102, 3) := dk_180 0 102 (dk_at dksX10_item_11 15 rfl rfl)
theorem dX10_item_250 : decode cX10_item 250 = .ok (.aload_n 0, 1) := dk_42 (dk_at dksX10_item_11 18 rfl rfl)
theorem dX10_item_251 : decode cX10_item 251 = .ok (.iconst 0, 1) := dk_3 (dk_at dksX10_item_11 19 rfl rfl)
theorem dX10_item_252 : decode cX10_item 252 = .ok (.bipush 60, 2) := dk_16 60 (dk_at dksX10_item_11 20 rfl rfl)
theorem dX10_item_254 : decode cX10_item 254 = .ok (.invokevirtual 79, 3) := dk_182 0 79 (dk_at dksX10_item_12 0 rfl rfl)
theorem dX10_item_257 : decode cX10_item 257 = .ok (.iastore, 1) := dk_79 (dk_at dksX10_item_12 3 rfl rfl)
theorem dX10_item_258 : decode cX10_item 258 = .ok (.aload_n 0, 1) := dk_42 (dk_at dksX10_item_12 4 rfl rfl)
theorem dX10_item_259 : decode cX10_item 259 = .ok (.getfield 18, 3) := dk_180 0 18 (dk_at dksX10_item_12 5 rfl rfl)
theorem dX10_item_262 : decode cX10_item 262 = .ok (.dup, 1) := dk_89 (dk_at dksX10_item_12 8 rfl rfl)
theorem dX10_item_263 : decode cX10_item 263 = .ok (.getfield 102, 3) := dk_180 0 102 (dk_at dksX10_item_12 9 rfl rfl)
theorem dX10_item_266 : decode cX10_item 266 = .ok (.iconst 1, 1) := dk_4 (dk_at dksX10_item_12 12 rfl rfl)
theorem dX10_item_267 : decode cX10_item 267 = .ok (.iadd, 1) := dk_96 (dk_at dksX10_item_12 13 rfl rfl)
theorem dX10_item_268 : decode cX10_item 268 = .ok (.putfield 102, 3) := dk_181 0 102 (dk_at dksX10_item_12 14 rfl rfl)
theorem dX10_item_271 : decode cX10_item 271 = .ok (.return_, 1) := dk_177 (dk_at dksX10_item_12 17 rfl rfl)
abbrev cX10_number : ByteArray := prog_8_method_5_code
def yX10_number : MethodName := ⟨RX10, "number", "(II)I"⟩
def dkwX10_number_1 : List UInt8 := [167, 0, 4, 3, 182, 0, 72, 172]
abbrev dktX10_number_1 : List UInt8 := dkwX10_number_1 ++ []
def dkwX10_number_0 : List UInt8 := [42, 42, 180, 0, 43, 6, 160, 0, 19, 42, 180, 0, 40, 27, 28, 184, 0, 46, 153, 0, 7, 4]
abbrev dktX10_number_0 : List UInt8 := dkwX10_number_0 ++ dktX10_number_1
theorem dksX10_number_0 : cX10_number.data.toList.drop 0 = dktX10_number_0 := by decide +kernel
theorem dksX10_number_1 : cX10_number.data.toList.drop 22 = dktX10_number_1 := dk_seg dksX10_number_0 22 rfl rfl
theorem dX10_number_0 : decode cX10_number 0 = .ok (.aload_n 0, 1) := dk_42 (dk_at dksX10_number_0 0 rfl rfl)
theorem dX10_number_1 : decode cX10_number 1 = .ok (.aload_n 0, 1) := dk_42 (dk_at dksX10_number_0 1 rfl rfl)
theorem dX10_number_2 : decode cX10_number 2 = .ok (.getfield 43, 3) := dk_180 0 43 (dk_at dksX10_number_0 2 rfl rfl)
theorem dX10_number_5 : decode cX10_number 5 = .ok (.iconst 3, 1) := dk_6 (dk_at dksX10_number_0 5 rfl rfl)
theorem dX10_number_6 : decode cX10_number 6 = .ok (.if_icmp .ne 19, 3) := dk_160 0 19 (dk_at dksX10_number_0 6 rfl rfl)
theorem dX10_number_9 : decode cX10_number 9 = .ok (.aload_n 0, 1) := dk_42 (dk_at dksX10_number_0 9 rfl rfl)
theorem dX10_number_10 : decode cX10_number 10 = .ok (.getfield 40, 3) := dk_180 0 40 (dk_at dksX10_number_0 10 rfl rfl)
theorem dX10_number_13 : decode cX10_number 13 = .ok (.iload_n 1, 1) := dk_27 (dk_at dksX10_number_0 13 rfl rfl)
theorem dX10_number_14 : decode cX10_number 14 = .ok (.iload_n 2, 1) := dk_28 (dk_at dksX10_number_0 14 rfl rfl)
theorem dX10_number_15 : decode cX10_number 15 = .ok (.invokestatic 46, 3) := dk_184 0 46 (dk_at dksX10_number_0 15 rfl rfl)
theorem dX10_number_18 : decode cX10_number 18 = .ok (.ifCond .eq 7, 3) := dk_153 0 7 (dk_at dksX10_number_0 18 rfl rfl)
theorem dX10_number_21 : decode cX10_number 21 = .ok (.iconst 1, 1) := dk_4 (dk_at dksX10_number_0 21 rfl rfl)
theorem dX10_number_22 : decode cX10_number 22 = .ok (.goto 4, 3) := dk_167 0 4 (dk_at dksX10_number_1 0 rfl rfl)
theorem dX10_number_25 : decode cX10_number 25 = .ok (.iconst 0, 1) := dk_3 (dk_at dksX10_number_1 3 rfl rfl)
theorem dX10_number_26 : decode cX10_number 26 = .ok (.invokevirtual 72, 3) := dk_182 0 72 (dk_at dksX10_number_1 4 rfl rfl)
theorem dX10_number_29 : decode cX10_number 29 = .ok (.ireturn, 1) := dk_172 (dk_at dksX10_number_1 7 rfl rfl)
abbrev cX10_town : ByteArray := prog_8_method_6_code
def yX10_town : MethodName := ⟨RX10, "town", "()I"⟩
def dkwX10_town_0 : List UInt8 := [42, 3, 42, 180, 0, 18, 180, 0, 76, 4, 100, 182, 0, 79, 172]
abbrev dktX10_town_0 : List UInt8 := dkwX10_town_0 ++ []
theorem dksX10_town_0 : cX10_town.data.toList.drop 0 = dktX10_town_0 := by decide +kernel
theorem dX10_town_0 : decode cX10_town 0 = .ok (.aload_n 0, 1) := dk_42 (dk_at dksX10_town_0 0 rfl rfl)
theorem dX10_town_1 : decode cX10_town 1 = .ok (.iconst 0, 1) := dk_3 (dk_at dksX10_town_0 1 rfl rfl)
theorem dX10_town_2 : decode cX10_town 2 = .ok (.aload_n 0, 1) := dk_42 (dk_at dksX10_town_0 2 rfl rfl)
theorem dX10_town_3 : decode cX10_town 3 = .ok (.getfield 18, 3) := dk_180 0 18 (dk_at dksX10_town_0 3 rfl rfl)
theorem dX10_town_6 : decode cX10_town 6 = .ok (.getfield 76, 3) := dk_180 0 76 (dk_at dksX10_town_0 6 rfl rfl)
theorem dX10_town_9 : decode cX10_town 9 = .ok (.iconst 1, 1) := dk_4 (dk_at dksX10_town_0 9 rfl rfl)
theorem dX10_town_10 : decode cX10_town 10 = .ok (.isub, 1) := dk_100 (dk_at dksX10_town_0 10 rfl rfl)
theorem dX10_town_11 : decode cX10_town 11 = .ok (.invokevirtual 79, 3) := dk_182 0 79 (dk_at dksX10_town_0 11 rfl rfl)
theorem dX10_town_14 : decode cX10_town 14 = .ok (.ireturn, 1) := dk_172 (dk_at dksX10_town_0 14 rfl rfl)
theorem q51 : (Jvm.Cond.initialized "BellLots$Reader") ∈ lw_all := lw_g (lw_at lw_m1 13 rfl) rfl
theorem q80 : (Jvm.Cond.fieldLinkNest "BellLots$Reader" (82 : Nat) "BellLots$Book" "tower" "[I" "BellLots") ∈ lw_tbl := lw_at lw_m1 42 rfl
theorem q84 : (Jvm.Cond.fieldLinkNest "BellLots$Reader" (86 : Nat) "BellLots$Book" "weight" "[I" "BellLots") ∈ lw_tbl := lw_at lw_m1 46 rfl
theorem q88 : (Jvm.Cond.fieldLinkNest "BellLots$Reader" (89 : Nat) "BellLots$Book" "note" "[I" "BellLots") ∈ lw_tbl := lw_at lw_m1 50 rfl
theorem q92 : (Jvm.Cond.fieldLinkNest "BellLots$Reader" (95 : Nat) "BellLots$Book" "toll" "[[I" "BellLots") ∈ lw_tbl := lw_at lw_m1 54 rfl
theorem q98 : (Jvm.Cond.fieldLinkNest "BellLots$Reader" (99 : Nat) "BellLots$Book" "oathBell" "[I" "BellLots") ∈ lw_tbl := lw_at lw_m1 60 rfl
theorem q102 : (Jvm.Cond.fieldLinkNest "BellLots$Reader" (105 : Nat) "BellLots$Book" "oathTown" "[I" "BellLots") ∈ lw_tbl := lw_at lw_m1 64 rfl
theorem q106 : (Jvm.Cond.fieldLinkNest "BellLots$Reader" (108 : Nat) "BellLots$Book" "oathTerm" "[I" "BellLots") ∈ lw_tbl := lw_at lw_m1 68 rfl
theorem q110 : (Jvm.Cond.fieldLinkNest "BellLots$Reader" (76 : Nat) "BellLots$Book" "towns" "I" "BellLots") ∈ lw_tbl := lw_at lw_m1 72 rfl
theorem q112 : (Jvm.Cond.fieldLinkNest "BellLots$Reader" (102 : Nat) "BellLots$Book" "oaths" "I" "BellLots") ∈ lw_tbl := lw_at lw_m1 74 rfl
theorem q115 : (Jvm.Cond.fieldLinkNest "BellLots$Reader" (118 : Nat) "BellLots$Book" "items" "I" "BellLots") ∈ lw_tbl := lw_at lw_m1 77 rfl
theorem q278 : (Jvm.Cond.fieldLinkNest "BellLots$Reader" (29 : Nat) "BellLots" "text" "[B" "BellLots") ∈ lw_tbl := lw_at lw_m2 0 rfl
theorem q280 : (Jvm.Cond.fieldLinkNest "BellLots$Reader" (26 : Nat) "BellLots" "typed" "I" "BellLots") ∈ lw_tbl := lw_at lw_m2 2 rfl
theorem q352 : (Jvm.Cond.instantiable "BellLots$Reader" (6 : Nat)) ∈ lw_all := lw_g (lw_at lw_m2 74 rfl) rfl
theorem q354 : (Jvm.Cond.instanceMethod ({ cls := "BellLots$Reader", name := "<init>", desc := "(LBellLots;)V" } : Jvm.MethodName)) ∈ lw_all := lw_g (lw_at lw_m2 76 rfl) rfl
theorem q355 : (Jvm.Cond.code ({ cls := "BellLots$Reader", name := "<init>", desc := "(LBellLots;)V" } : Jvm.MethodName) prog_8_method_1_code (2 : Nat) (Option.none : Option Jvm.ClassFile.FieldType)) ∈ lw_all := lw_g (lw_at lw_m2 77 rfl) rfl
theorem q356 : (Jvm.Cond.methodLink "BellLots$Reader" (9 : Nat) ({ cls := "java/lang/Object", name := "<init>", desc := "()V" } : Jvm.MethodName)) ∈ lw_all := lw_g (lw_at lw_m2 78 rfl) rfl
theorem q357 : (Jvm.Cond.classLink "BellLots$Reader" (15 : Nat) "BellLots$Book") ∈ lw_all := lw_g (lw_at lw_m2 79 rfl) rfl
theorem q358 : (Jvm.Cond.methodLinkNest "BellLots$Reader" (17 : Nat) ({ cls := "BellLots$Book", name := "<init>", desc := "()V" } : Jvm.MethodName) "BellLots") ∈ lw_tbl := lw_at lw_m2 80 rfl
theorem q359 : (Jvm.Cond.fieldLink "BellLots$Reader" (22 : Nat) "BellLots$Reader" "at" "I") ∈ lw_all := lw_g (lw_at lw_m2 81 rfl) rfl
theorem q360 : (Jvm.Cond.fieldLink "BellLots$Reader" (37 : Nat) "BellLots$Reader" "start" "I") ∈ lw_all := lw_g (lw_at lw_m2 82 rfl) rfl
theorem q361 : (Jvm.Cond.fieldLink "BellLots$Reader" (43 : Nat) "BellLots$Reader" "sort" "I") ∈ lw_all := lw_g (lw_at lw_m2 83 rfl) rfl
theorem q362 : (Jvm.Cond.fieldLink "BellLots$Reader" (40 : Nat) "BellLots$Reader" "value" "I") ∈ lw_all := lw_g (lw_at lw_m2 84 rfl) rfl
theorem q363 : (Jvm.Cond.fieldLink "BellLots$Reader" (18 : Nat) "BellLots$Reader" "made" "LBellLots$Book;") ∈ lw_all := lw_g (lw_at lw_m2 85 rfl) rfl
theorem q364 : (Jvm.Cond.fieldLink "BellLots$Reader" (3 : Nat) "BellLots$Reader" "this$0" "LBellLots;") ∈ lw_all := lw_g (lw_at lw_m2 86 rfl) rfl
theorem q365 : (Jvm.Cond.lays "BellLots$Reader" "BellLots$Reader" "at" "I") ∈ lw_all := lw_g (lw_at lw_m2 87 rfl) rfl
theorem q366 : (Jvm.Cond.soleField "BellLots$Reader" "at") ∈ lw_all := lw_g (lw_at lw_m2 88 rfl) rfl
theorem q367 : (Jvm.Cond.lays "BellLots$Reader" "BellLots$Reader" "start" "I") ∈ lw_all := lw_g (lw_at lw_m2 89 rfl) rfl
theorem q368 : (Jvm.Cond.soleField "BellLots$Reader" "start") ∈ lw_all := lw_g (lw_at lw_m2 90 rfl) rfl
theorem q369 : (Jvm.Cond.lays "BellLots$Reader" "BellLots$Reader" "sort" "I") ∈ lw_all := lw_g (lw_at lw_m2 91 rfl) rfl
theorem q370 : (Jvm.Cond.soleField "BellLots$Reader" "sort") ∈ lw_all := lw_g (lw_at lw_m2 92 rfl) rfl
theorem q371 : (Jvm.Cond.lays "BellLots$Reader" "BellLots$Reader" "value" "I") ∈ lw_all := lw_g (lw_at lw_m2 93 rfl) rfl
theorem q372 : (Jvm.Cond.soleField "BellLots$Reader" "value") ∈ lw_all := lw_g (lw_at lw_m2 94 rfl) rfl
theorem q373 : (Jvm.Cond.laysFinal "BellLots$Reader" "BellLots$Reader" "made" "LBellLots$Book;") ∈ lw_all := lw_g (lw_at lw_m2 95 rfl) rfl
theorem q374 : (Jvm.Cond.soleField "BellLots$Reader" "made") ∈ lw_all := lw_g (lw_at lw_m2 96 rfl) rfl
theorem q375 : (Jvm.Cond.laysFinal "BellLots$Reader" "BellLots$Reader" "this$0" "LBellLots;") ∈ lw_all := lw_g (lw_at lw_m2 97 rfl) rfl
theorem q376 : (Jvm.Cond.soleField "BellLots$Reader" "this$0") ∈ lw_all := lw_g (lw_at lw_m2 98 rfl) rfl
theorem q377 : (Jvm.Cond.superclass "BellLots$Reader" "java/lang/Object") ∈ lw_all := lw_g (lw_at lw_m2 99 rfl) rfl
theorem q379 : (Jvm.Cond.instanceMethod ({ cls := "BellLots$Reader", name := "read", desc := "()LBellLots$Book;" } : Jvm.MethodName)) ∈ lw_all := lw_g (lw_at lw_m2 101 rfl) rfl
theorem q380 : (Jvm.Cond.selects "BellLots$Reader" ({ cls := "BellLots$Reader", name := "read", desc := "()LBellLots$Book;" } : Jvm.MethodName) ({ cls := "BellLots$Reader", name := "read", desc := "()LBellLots$Book;" } : Jvm.MethodName)) ∈ lw_all := lw_g (lw_at lw_m2 102 rfl) rfl
theorem q381 : (Jvm.Cond.code ({ cls := "BellLots$Reader", name := "read", desc := "()LBellLots$Book;" } : Jvm.MethodName) prog_8_method_9_code (2 : Nat) (Option.some (Jvm.ClassFile.FieldType.object "BellLots$Book"))) ∈ lw_all := lw_g (lw_at lw_m2 103 rfl) rfl
theorem q382 : (Jvm.Cond.methodLink "BellLots$Reader" (69 : Nat) ({ cls := "BellLots$Reader", name := "step", desc := "()V" } : Jvm.MethodName)) ∈ lw_all := lw_g (lw_at lw_m2 104 rfl) rfl
theorem q383 : (Jvm.Cond.privateMethod ({ cls := "BellLots$Reader", name := "step", desc := "()V" } : Jvm.MethodName)) ∈ lw_tbl := lw_at lw_m2 105 rfl
theorem q384 : (Jvm.Cond.instanceMethod ({ cls := "BellLots$Reader", name := "step", desc := "()V" } : Jvm.MethodName)) ∈ lw_all := lw_g (lw_at lw_m2 106 rfl) rfl
theorem q385 : (Jvm.Cond.code ({ cls := "BellLots$Reader", name := "step", desc := "()V" } : Jvm.MethodName) prog_8_method_3_code (3 : Nat) (Option.none : Option Jvm.ClassFile.FieldType)) ∈ lw_all := lw_g (lw_at lw_m2 107 rfl) rfl
theorem q386 : (Jvm.Cond.methodLink "BellLots$Reader" (33 : Nat) ({ cls := "BellLots$Reader", name := "here", desc := "()I" } : Jvm.MethodName)) ∈ lw_all := lw_g (lw_at lw_m2 108 rfl) rfl
theorem q387 : (Jvm.Cond.privateMethod ({ cls := "BellLots$Reader", name := "here", desc := "()I" } : Jvm.MethodName)) ∈ lw_tbl := lw_at lw_m2 109 rfl
theorem q388 : (Jvm.Cond.instanceMethod ({ cls := "BellLots$Reader", name := "here", desc := "()I" } : Jvm.MethodName)) ∈ lw_all := lw_g (lw_at lw_m2 110 rfl) rfl
theorem q389 : (Jvm.Cond.code ({ cls := "BellLots$Reader", name := "here", desc := "()I" } : Jvm.MethodName) prog_8_method_2_code (1 : Nat) (Option.some Jvm.ClassFile.FieldType.int)) ∈ lw_all := lw_g (lw_at lw_m2 111 rfl) rfl
theorem q390 : (Jvm.Cond.methodLinkNest "BellLots$Reader" (46 : Nat) ({ cls := "BellLots", name := "in", desc := "(III)Z" } : Jvm.MethodName) "BellLots") ∈ lw_tbl := lw_at lw_m2 112 rfl
theorem q391 : (Jvm.Cond.methodLink "BellLots$Reader" (50 : Nat) ({ cls := "java/lang/Math", name := "min", desc := "(II)I" } : Jvm.MethodName)) ∈ lw_all := lw_g (lw_at lw_m2 113 rfl) rfl
theorem q394 : (Jvm.Cond.stringRef "BellLots$Reader" (56 : Nat) "tdo") ∈ lw_tbl := lw_at lw_m2 116 rfl
theorem q395 : (Jvm.Cond.methodLink "BellLots$Reader" (58 : Nat) ({ cls := "java/lang/String", name := "indexOf", desc := "(I)I" } : Jvm.MethodName)) ∈ lw_all := lw_g (lw_at lw_m2 117 rfl) rfl
theorem q477 : (Jvm.Cond.methodLink "BellLots$Reader" (111 : Nat) ({ cls := "BellLots$Reader", name := "may", desc := "(I)Z" } : Jvm.MethodName)) ∈ lw_all := lw_g (lw_at lw_m2 199 rfl) rfl
theorem q478 : (Jvm.Cond.privateMethod ({ cls := "BellLots$Reader", name := "may", desc := "(I)Z" } : Jvm.MethodName)) ∈ lw_tbl := lw_at lw_m2 200 rfl
theorem q479 : (Jvm.Cond.instanceMethod ({ cls := "BellLots$Reader", name := "may", desc := "(I)Z" } : Jvm.MethodName)) ∈ lw_all := lw_g (lw_at lw_m2 201 rfl) rfl
theorem q480 : (Jvm.Cond.code ({ cls := "BellLots$Reader", name := "may", desc := "(I)Z" } : Jvm.MethodName) prog_8_method_8_code (2 : Nat) (Option.some Jvm.ClassFile.FieldType.boolean)) ∈ lw_all := lw_g (lw_at lw_m2 202 rfl) rfl
theorem q481 : (Jvm.Cond.methodLink "BellLots$Reader" (72 : Nat) ({ cls := "BellLots$Reader", name := "due", desc := "(Z)I" } : Jvm.MethodName)) ∈ lw_all := lw_g (lw_at lw_m2 203 rfl) rfl
theorem q482 : (Jvm.Cond.privateMethod ({ cls := "BellLots$Reader", name := "due", desc := "(Z)I" } : Jvm.MethodName)) ∈ lw_tbl := lw_at lw_m2 204 rfl
theorem q483 : (Jvm.Cond.instanceMethod ({ cls := "BellLots$Reader", name := "due", desc := "(Z)I" } : Jvm.MethodName)) ∈ lw_all := lw_g (lw_at lw_m2 205 rfl) rfl
theorem q484 : (Jvm.Cond.code ({ cls := "BellLots$Reader", name := "due", desc := "(Z)I" } : Jvm.MethodName) prog_8_method_4_code (3 : Nat) (Option.some Jvm.ClassFile.FieldType.int)) ∈ lw_all := lw_g (lw_at lw_m2 206 rfl) rfl
theorem q485 : (Jvm.Cond.classLink "BellLots$Reader" (64 : Nat) "BellLots$Wrong") ∈ lw_all := lw_g (lw_at lw_m2 207 rfl) rfl
theorem q524 : (Jvm.Cond.methodLink "BellLots$Reader" (66 : Nat) ({ cls := "BellLots$Wrong", name := "<init>", desc := "(I)V" } : Jvm.MethodName)) ∈ lw_all := lw_g (lw_at lw_m3 6 rfl) rfl
theorem q553 : (Jvm.Cond.methodLink "BellLots$Reader" (115 : Nat) ({ cls := "BellLots$Reader", name := "item", desc := "(I)V" } : Jvm.MethodName)) ∈ lw_all := lw_g (lw_at lw_m3 35 rfl) rfl
theorem q554 : (Jvm.Cond.privateMethod ({ cls := "BellLots$Reader", name := "item", desc := "(I)V" } : Jvm.MethodName)) ∈ lw_tbl := lw_at lw_m3 36 rfl
theorem q555 : (Jvm.Cond.instanceMethod ({ cls := "BellLots$Reader", name := "item", desc := "(I)V" } : Jvm.MethodName)) ∈ lw_all := lw_g (lw_at lw_m3 37 rfl) rfl
theorem q556 : (Jvm.Cond.code ({ cls := "BellLots$Reader", name := "item", desc := "(I)V" } : Jvm.MethodName) prog_8_method_7_code (4 : Nat) (Option.none : Option Jvm.ClassFile.FieldType)) ∈ lw_all := lw_g (lw_at lw_m3 38 rfl) rfl
theorem q557 : (Jvm.Cond.methodLink "BellLots$Reader" (79 : Nat) ({ cls := "BellLots$Reader", name := "number", desc := "(II)I" } : Jvm.MethodName)) ∈ lw_all := lw_g (lw_at lw_m3 39 rfl) rfl
theorem q558 : (Jvm.Cond.privateMethod ({ cls := "BellLots$Reader", name := "number", desc := "(II)I" } : Jvm.MethodName)) ∈ lw_tbl := lw_at lw_m3 40 rfl
theorem q559 : (Jvm.Cond.instanceMethod ({ cls := "BellLots$Reader", name := "number", desc := "(II)I" } : Jvm.MethodName)) ∈ lw_all := lw_g (lw_at lw_m3 41 rfl) rfl
theorem q560 : (Jvm.Cond.code ({ cls := "BellLots$Reader", name := "number", desc := "(II)I" } : Jvm.MethodName) prog_8_method_5_code (3 : Nat) (Option.some Jvm.ClassFile.FieldType.int)) ∈ lw_all := lw_g (lw_at lw_m3 42 rfl) rfl
theorem q561 : (Jvm.Cond.methodLink "BellLots$Reader" (92 : Nat) ({ cls := "BellLots$Reader", name := "town", desc := "()I" } : Jvm.MethodName)) ∈ lw_all := lw_g (lw_at lw_m3 43 rfl) rfl
theorem q562 : (Jvm.Cond.privateMethod ({ cls := "BellLots$Reader", name := "town", desc := "()I" } : Jvm.MethodName)) ∈ lw_tbl := lw_at lw_m3 44 rfl
theorem q563 : (Jvm.Cond.instanceMethod ({ cls := "BellLots$Reader", name := "town", desc := "()I" } : Jvm.MethodName)) ∈ lw_all := lw_g (lw_at lw_m3 45 rfl) rfl
theorem q564 : (Jvm.Cond.code ({ cls := "BellLots$Reader", name := "town", desc := "()I" } : Jvm.MethodName) prog_8_method_6_code (1 : Nat) (Option.some Jvm.ClassFile.FieldType.int)) ∈ lw_all := lw_g (lw_at lw_m3 46 rfl) rfl
theorem q565 : (Jvm.Cond.methodLink "BellLots$Reader" (121 : Nat) ({ cls := "BellLots$Book", name := "measure", desc := "()V" } : Jvm.MethodName)) ∈ lw_all := lw_g (lw_at lw_m3 47 rfl) rfl
theorem in_X10 : ∀ w ∈ wsX100, w ∈ lw_all := lw_in wsX100 [365, 367, 369, 371, 373, 375] (by decide +kernel) (by decide +kernel)
/-! BellLots$Wrong -/
set_option maxRecDepth 100000
def RX11 : String := "BellLots$Wrong"
def TX11 : u_T := fun k => match k with
  | 0 => ("java/lang/Throwable", "cause", "Ljava/lang/Throwable;", false)
  | 1 => ("java/lang/Throwable", "stackTrace", "[Ljava/lang/StackTraceElement;", false)
  | 2 => ("java/lang/Throwable", "suppressedExceptions", "Ljava/util/List;", false)
  | 3 => ("java/lang/Throwable", "detailMessage", "Ljava/lang/String;", false)
  | 4 => ("java/lang/Throwable", "backtrace", "Ljava/lang/Object;", false)
  | 5 => ("java/lang/Throwable", "depth", "I", false)
  | _ => ("BellLots$Wrong", "at", "I", true)
def tyX11 : Nat → FieldType := fun k => match k with
  | 0 => .object "java/lang/Throwable"
  | 1 => .array (.object "java/lang/StackTraceElement")
  | 2 => .object "java/util/List"
  | 3 => .object "java/lang/String"
  | 4 => .object "java/lang/Object"
  | 5 => .int
  | _ => .int
abbrev wsX110 : List Cond := u_ws RX11 TX11 7
theorem nmX11 : ∀ a, a < 7 → ∀ b, b < 7 → a ≠ b → (TX11 a).2.1 ≠ (TX11 b).2.1 := by decide +kernel
theorem tyX11_ok : ∀ k, k < 7 → parseFieldDescriptor (TX11 k).2.2.1 = some (tyX11 k) := by decide +kernel
abbrev cX11_init : ByteArray := prog_11_method_1_code
def yX11_init : MethodName := ⟨RX11, "<init>", "(I)V"⟩
def dkwX11_init_0 : List UInt8 := [42, 1, 1, 3, 3, 183, 0, 1, 42, 27, 181, 0, 7, 177]
abbrev dktX11_init_0 : List UInt8 := dkwX11_init_0 ++ []
theorem dksX11_init_0 : cX11_init.data.toList.drop 0 = dktX11_init_0 := by decide +kernel
theorem dX11_init_0 : decode cX11_init 0 = .ok (.aload_n 0, 1) := dk_42 (dk_at dksX11_init_0 0 rfl rfl)
theorem dX11_init_1 : decode cX11_init 1 = .ok (.aconst_null, 1) := dk_1 (dk_at dksX11_init_0 1 rfl rfl)
theorem dX11_init_2 : decode cX11_init 2 = .ok (.aconst_null, 1) := dk_1 (dk_at dksX11_init_0 2 rfl rfl)
theorem dX11_init_3 : decode cX11_init 3 = .ok (.iconst 0, 1) := dk_3 (dk_at dksX11_init_0 3 rfl rfl)
theorem dX11_init_4 : decode cX11_init 4 = .ok (.iconst 0, 1) := dk_3 (dk_at dksX11_init_0 4 rfl rfl)
theorem dX11_init_5 : decode cX11_init 5 = .ok (.invokespecial 1, 3) := dk_183 0 1 (dk_at dksX11_init_0 5 rfl rfl)
theorem dX11_init_8 : decode cX11_init 8 = .ok (.aload_n 0, 1) := dk_42 (dk_at dksX11_init_0 8 rfl rfl)
theorem dX11_init_9 : decode cX11_init 9 = .ok (.iload_n 1, 1) := dk_27 (dk_at dksX11_init_0 9 rfl rfl)
theorem dX11_init_10 : decode cX11_init 10 = .ok (.putfield 7, 3) := dk_181 0 7 (dk_at dksX11_init_0 10 rfl rfl)
theorem dX11_init_13 : decode cX11_init 13 = .ok (.return_, 1) := dk_177 (dk_at dksX11_init_0 13 rfl rfl)
theorem q60 : (Jvm.Cond.initialized "BellLots$Wrong") ∈ lw_all := lw_g (lw_at lw_m1 22 rfl) rfl
theorem q486 : (Jvm.Cond.instantiable "BellLots$Wrong" (7 : Nat)) ∈ lw_all := lw_g (lw_at lw_m2 208 rfl) rfl
theorem q487 : (Jvm.Cond.castable "BellLots$Wrong" "BellLots$Wrong") ∈ lw_tbl := lw_at lw_m2 209 rfl
theorem q494 : (Jvm.Cond.selects "BellLots$Wrong" ({ cls := "java/lang/Throwable", name := "fillInStackTrace", desc := "(I)Ljava/lang/Throwable;" } : Jvm.MethodName) ({ cls := "java/lang/Throwable", name := "fillInStackTrace", desc := "(I)Ljava/lang/Throwable;" } : Jvm.MethodName)) ∈ lw_all := lw_g (lw_at lw_m2 216 rfl) rfl
theorem q495 : (Jvm.Cond.selects "BellLots$Wrong" ({ cls := "java/lang/Throwable", name := "fillInStackTrace", desc := "()Ljava/lang/Throwable;" } : Jvm.MethodName) ({ cls := "java/lang/Throwable", name := "fillInStackTrace", desc := "()Ljava/lang/Throwable;" } : Jvm.MethodName)) ∈ lw_all := lw_g (lw_at lw_m2 217 rfl) rfl
theorem q496 : (Jvm.Cond.lays "BellLots$Wrong" "java/lang/Throwable" "cause" "Ljava/lang/Throwable;") ∈ lw_all := lw_g (lw_at lw_m2 218 rfl) rfl
theorem q498 : (Jvm.Cond.lays "BellLots$Wrong" "java/lang/Throwable" "stackTrace" "[Ljava/lang/StackTraceElement;") ∈ lw_all := lw_g (lw_at lw_m2 220 rfl) rfl
theorem q500 : (Jvm.Cond.lays "BellLots$Wrong" "java/lang/Throwable" "suppressedExceptions" "Ljava/util/List;") ∈ lw_all := lw_g (lw_at lw_m2 222 rfl) rfl
theorem q502 : (Jvm.Cond.lays "BellLots$Wrong" "java/lang/Throwable" "detailMessage" "Ljava/lang/String;") ∈ lw_all := lw_g (lw_at lw_m2 224 rfl) rfl
theorem q504 : (Jvm.Cond.lays "BellLots$Wrong" "java/lang/Throwable" "backtrace" "Ljava/lang/Object;") ∈ lw_all := lw_g (lw_at lw_m2 226 rfl) rfl
theorem q525 : (Jvm.Cond.instanceMethod ({ cls := "BellLots$Wrong", name := "<init>", desc := "(I)V" } : Jvm.MethodName)) ∈ lw_all := lw_g (lw_at lw_m3 7 rfl) rfl
theorem q526 : (Jvm.Cond.code ({ cls := "BellLots$Wrong", name := "<init>", desc := "(I)V" } : Jvm.MethodName) prog_11_method_1_code (2 : Nat) (Option.none : Option Jvm.ClassFile.FieldType)) ∈ lw_all := lw_g (lw_at lw_m3 8 rfl) rfl
theorem q527 : (Jvm.Cond.methodLink "BellLots$Wrong" (1 : Nat) ({ cls := "java/lang/RuntimeException", name := "<init>", desc := "(Ljava/lang/String;Ljava/lang/Throwable;ZZ)V" } : Jvm.MethodName)) ∈ lw_all := lw_g (lw_at lw_m3 9 rfl) rfl
theorem q536 : (Jvm.Cond.fieldLink "BellLots$Wrong" (7 : Nat) "BellLots$Wrong" "at" "I") ∈ lw_all := lw_g (lw_at lw_m3 18 rfl) rfl
theorem q543 : (Jvm.Cond.laysFinal "BellLots$Wrong" "BellLots$Wrong" "at" "I") ∈ lw_all := lw_g (lw_at lw_m3 25 rfl) rfl
theorem q544 : (Jvm.Cond.soleField "BellLots$Wrong" "at") ∈ lw_all := lw_g (lw_at lw_m3 26 rfl) rfl
theorem q549 : (Jvm.Cond.lays "BellLots$Wrong" "java/lang/Throwable" "depth" "I") ∈ lw_all := lw_g (lw_at lw_m3 31 rfl) rfl
theorem q552 : (Jvm.Cond.superclass "BellLots$Wrong" "java/lang/RuntimeException") ∈ lw_all := lw_g (lw_at lw_m3 34 rfl) rfl
theorem in_X11 : ∀ w ∈ wsX110, w ∈ lw_all := lw_in wsX110 [496, 498, 500, 502, 504, 549, 543] (by decide +kernel) (by decide +kernel)
