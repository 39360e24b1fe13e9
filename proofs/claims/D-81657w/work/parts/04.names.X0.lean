/-! WithinWords -/
set_option maxRecDepth 100000
def RX0 : String := "WithinWords"
def TX0 : u_T := fun k => match k with
  | 0 => ("WithinWords", "finding", "I", false)
  | 1 => ("WithinWords", "findings", "[I", true)
  | 2 => ("WithinWords", "asked", "I", false)
  | 3 => ("WithinWords", "many", "J", false)
  | 4 => ("WithinWords", "upper", "J", false)
  | 5 => ("WithinWords", "lower", "J", false)
  | 6 => ("WithinWords", "k", "I", false)
  | 7 => ("WithinWords", "rows", "[[I", true)
  | 8 => ("WithinWords", "texts", "[[B", true)
  | 9 => ("WithinWords", "words", "[LWithinWords$Word;", true)
  | 10 => ("WithinWords", "reading", "[B", false)
  | 11 => ("WithinWords", "readAt", "I", false)
  | 12 => ("WithinWords", "readSize", "I", false)
  | 13 => ("WithinWords", "read", "[B", true)
  | 14 => ("WithinWords", "next", "[I", true)
  | 15 => ("WithinWords", "other", "[I", true)
  | 16 => ("WithinWords", "early", "[I", true)
  | 17 => ("WithinWords", "late", "[I", true)
  | 18 => ("WithinWords", "counts", "[J", true)
  | 19 => ("WithinWords", "archCount", "I", false)
  | 20 => ("WithinWords", "restFrom", "I", false)
  | 21 => ("WithinWords", "queue", "[I", true)
  | 22 => ("WithinWords", "before", "[I", true)
  | 23 => ("WithinWords", "by", "[I", true)
  | 24 => ("WithinWords", "partedAt", "I", false)
  | 25 => ("WithinWords", "partedBy", "I", false)
  | 26 => ("WithinWords", "someCount", "I", false)
  | 27 => ("WithinWords", "some", "[I", true)
  | 28 => ("WithinWords", "stepOf", "[I", true)
  | 29 => ("WithinWords", "tables", "[I", true)
  | 30 => ("WithinWords", "best", "[I", true)
  | 31 => ("WithinWords", "firstLetter", "[I", true)
  | _ => ("WithinWords", "h", "J", false)
def tyX0 : Nat → FieldType := fun k => match k with
  | 0 => .int
  | 1 => .array .int
  | 2 => .int
  | 3 => .long
  | 4 => .long
  | 5 => .long
  | 6 => .int
  | 7 => .array (.array .int)
  | 8 => .array (.array .byte)
  | 9 => .array (.object "WithinWords$Word")
  | 10 => .array .byte
  | 11 => .int
  | 12 => .int
  | 13 => .array .byte
  | 14 => .array .int
  | 15 => .array .int
  | 16 => .array .int
  | 17 => .array .int
  | 18 => .array .long
  | 19 => .int
  | 20 => .int
  | 21 => .array .int
  | 22 => .array .int
  | 23 => .array .int
  | 24 => .int
  | 25 => .int
  | 26 => .int
  | 27 => .array .int
  | 28 => .array .int
  | 29 => .array .int
  | 30 => .array .int
  | 31 => .array .int
  | _ => .long
abbrev wsX00 : List Cond := u_ws RX0 TX0 33
set_option maxRecDepth 100000 in
theorem nmX0 : ∀ a, a < 33 → ∀ b, b < 33 → a ≠ b → (TX0 a).2.1 ≠ (TX0 b).2.1 := by decide +kernel
set_option maxRecDepth 100000 in
theorem tyX0_ok : ∀ k, k < 33 → parseFieldDescriptor (TX0 k).2.2.1 = some (tyX0 k) := by decide +kernel
abbrev cX0_init : ByteArray := prog_1_method_6_code
def yX0_init : MethodName := ⟨RX0, "<init>", "()V"⟩
def dkwX0_init_7 : List UInt8 := [17, 78, 32, 188, 10, 181, 0, 90, 42, 9, 181, 0, 14, 177]
abbrev dktX0_init_7 : List UInt8 := dkwX0_init_7 ++ []
def dkwX0_init_6 : List UInt8 := [181, 0, 81, 42, 17, 3, 216, 188, 10, 181, 0, 84, 42, 17, 78, 32, 188, 10, 181, 0, 87, 42]
abbrev dktX0_init_6 : List UInt8 := dkwX0_init_6 ++ dktX0_init_7
def dkwX0_init_5 : List UInt8 := [181, 0, 72, 42, 17, 6, 145, 188, 10, 181, 0, 75, 42, 7, 188, 10, 181, 0, 78, 42, 7, 188, 10]
abbrev dktX0_init_5 : List UInt8 := dkwX0_init_5 ++ dktX0_init_6
def dkwX0_init_4 : List UInt8 := [17, 6, 145, 188, 11, 181, 0, 65, 42, 17, 6, 145, 188, 10, 181, 0, 69, 42, 17, 6, 145, 188, 10]
abbrev dktX0_init_4 : List UInt8 := dkwX0_init_4 ++ dktX0_init_5
def dkwX0_init_3 : List UInt8 := [188, 10, 181, 0, 56, 42, 16, 40, 188, 10, 181, 0, 59, 42, 16, 40, 188, 10, 181, 0, 62, 42]
abbrev dktX0_init_3 : List UInt8 := dkwX0_init_3 ++ dktX0_init_4
def dkwX0_init_2 : List UInt8 := [181, 0, 46, 42, 16, 40, 188, 8, 181, 0, 50, 42, 17, 0, 246, 188, 10, 181, 0, 53, 42, 17, 0, 246]
abbrev dktX0_init_2 : List UInt8 := dkwX0_init_2 ++ dktX0_init_3
def dkwX0_init_1 : List UInt8 := [16, 6, 189, 0, 33, 181, 0, 34, 42, 7, 189, 0, 38, 181, 0, 40, 42, 16, 8, 189, 0, 44]
abbrev dktX0_init_1 : List UInt8 := dkwX0_init_1 ++ dktX0_init_2
def dkwX0_init_0 : List UInt8 := [42, 183, 0, 24, 42, 16, 6, 188, 10, 181, 0, 7, 42, 10, 181, 0, 21, 42, 6, 181, 0, 30, 42]
abbrev dktX0_init_0 : List UInt8 := dkwX0_init_0 ++ dktX0_init_1
theorem dksX0_init_0 : cX0_init.data.toList.drop 0 = dktX0_init_0 := by decide +kernel
theorem dksX0_init_1 : cX0_init.data.toList.drop 23 = dktX0_init_1 := dk_seg dksX0_init_0 23 rfl rfl
theorem dksX0_init_2 : cX0_init.data.toList.drop 45 = dktX0_init_2 := dk_seg dksX0_init_1 22 rfl rfl
theorem dksX0_init_3 : cX0_init.data.toList.drop 69 = dktX0_init_3 := dk_seg dksX0_init_2 24 rfl rfl
theorem dksX0_init_4 : cX0_init.data.toList.drop 91 = dktX0_init_4 := dk_seg dksX0_init_3 22 rfl rfl
theorem dksX0_init_5 : cX0_init.data.toList.drop 114 = dktX0_init_5 := dk_seg dksX0_init_4 23 rfl rfl
theorem dksX0_init_6 : cX0_init.data.toList.drop 137 = dktX0_init_6 := dk_seg dksX0_init_5 23 rfl rfl
theorem dksX0_init_7 : cX0_init.data.toList.drop 159 = dktX0_init_7 := dk_seg dksX0_init_6 22 rfl rfl
theorem dX0_init_0 : decode cX0_init 0 = .ok (.aload_n 0, 1) := dk_42 (dk_at dksX0_init_0 0 rfl rfl)
theorem dX0_init_1 : decode cX0_init 1 = .ok (.invokespecial 24, 3) := dk_183 0 24 (dk_at dksX0_init_0 1 rfl rfl)
theorem dX0_init_4 : decode cX0_init 4 = .ok (.aload_n 0, 1) := dk_42 (dk_at dksX0_init_0 4 rfl rfl)
theorem dX0_init_5 : decode cX0_init 5 = .ok (.bipush 6, 2) := dk_16 6 (dk_at dksX0_init_0 5 rfl rfl)
theorem dX0_init_7 : decode cX0_init 7 = .ok (.newarray .int, 2) := dk_188_10 (dk_at dksX0_init_0 7 rfl rfl)
theorem dX0_init_9 : decode cX0_init 9 = .ok (.putfield 7, 3) := dk_181 0 7 (dk_at dksX0_init_0 9 rfl rfl)
theorem dX0_init_12 : decode cX0_init 12 = .ok (.aload_n 0, 1) := dk_42 (dk_at dksX0_init_0 12 rfl rfl)
theorem dX0_init_13 : decode cX0_init 13 = .ok (.lconst 1, 1) := dk_10 (dk_at dksX0_init_0 13 rfl rfl)
theorem dX0_init_14 : decode cX0_init 14 = .ok (.putfield 21, 3) := dk_181 0 21 (dk_at dksX0_init_0 14 rfl rfl)
theorem dX0_init_17 : decode cX0_init 17 = .ok (.aload_n 0, 1) := dk_42 (dk_at dksX0_init_0 17 rfl rfl)
theorem dX0_init_18 : decode cX0_init 18 = .ok (.iconst 3, 1) := dk_6 (dk_at dksX0_init_0 18 rfl rfl)
theorem dX0_init_19 : decode cX0_init 19 = .ok (.putfield 30, 3) := dk_181 0 30 (dk_at dksX0_init_0 19 rfl rfl)
theorem dX0_init_22 : decode cX0_init 22 = .ok (.aload_n 0, 1) := dk_42 (dk_at dksX0_init_0 22 rfl rfl)
theorem dX0_init_23 : decode cX0_init 23 = .ok (.bipush 6, 2) := dk_16 6 (dk_at dksX0_init_1 0 rfl rfl)
theorem dX0_init_25 : decode cX0_init 25 = .ok (.anewarray 33, 3) := dk_189 0 33 (dk_at dksX0_init_1 2 rfl rfl)
theorem dX0_init_28 : decode cX0_init 28 = .ok (.putfield 34, 3) := dk_181 0 34 (dk_at dksX0_init_1 5 rfl rfl)
theorem dX0_init_31 : decode cX0_init 31 = .ok (.aload_n 0, 1) := dk_42 (dk_at dksX0_init_1 8 rfl rfl)
theorem dX0_init_32 : decode cX0_init 32 = .ok (.iconst 4, 1) := dk_7 (dk_at dksX0_init_1 9 rfl rfl)
theorem dX0_init_33 : decode cX0_init 33 = .ok (.anewarray 38, 3) := dk_189 0 38 (dk_at dksX0_init_1 10 rfl rfl)
theorem dX0_init_36 : decode cX0_init 36 = .ok (.putfield 40, 3) := dk_181 0 40 (dk_at dksX0_init_1 13 rfl rfl)
theorem dX0_init_39 : decode cX0_init 39 = .ok (.aload_n 0, 1) := dk_42 (dk_at dksX0_init_1 16 rfl rfl)
theorem dX0_init_40 : decode cX0_init 40 = .ok (.bipush 8, 2) := dk_16 8 (dk_at dksX0_init_1 17 rfl rfl)
theorem dX0_init_42 : decode cX0_init 42 = .ok (.anewarray 44, 3) := dk_189 0 44 (dk_at dksX0_init_1 19 rfl rfl)
theorem dX0_init_45 : decode cX0_init 45 = .ok (.putfield 46, 3) := dk_181 0 46 (dk_at dksX0_init_2 0 rfl rfl)
theorem dX0_init_48 : decode cX0_init 48 = .ok (.aload_n 0, 1) := dk_42 (dk_at dksX0_init_2 3 rfl rfl)
theorem dX0_init_49 : decode cX0_init 49 = .ok (.bipush 40, 2) := dk_16 40 (dk_at dksX0_init_2 4 rfl rfl)
theorem dX0_init_51 : decode cX0_init 51 = .ok (.newarray .byte, 2) := dk_188_8 (dk_at dksX0_init_2 6 rfl rfl)
theorem dX0_init_53 : decode cX0_init 53 = .ok (.putfield 50, 3) := dk_181 0 50 (dk_at dksX0_init_2 8 rfl rfl)
theorem dX0_init_56 : decode cX0_init 56 = .ok (.aload_n 0, 1) := dk_42 (dk_at dksX0_init_2 11 rfl rfl)
theorem dX0_init_57 : decode cX0_init 57 = .ok (.sipush 246, 3) := dk_17 0 246 (dk_at dksX0_init_2 12 rfl rfl)
theorem dX0_init_60 : decode cX0_init 60 = .ok (.newarray .int, 2) := dk_188_10 (dk_at dksX0_init_2 15 rfl rfl)
theorem dX0_init_62 : decode cX0_init 62 = .ok (.putfield 53, 3) := dk_181 0 53 (dk_at dksX0_init_2 17 rfl rfl)
theorem dX0_init_65 : decode cX0_init 65 = .ok (.aload_n 0, 1) := dk_42 (dk_at dksX0_init_2 20 rfl rfl)
theorem dX0_init_66 : decode cX0_init 66 = .ok (.sipush 246, 3) := dk_17 0 246 (dk_at dksX0_init_2 21 rfl rfl)
theorem dX0_init_69 : decode cX0_init 69 = .ok (.newarray .int, 2) := dk_188_10 (dk_at dksX0_init_3 0 rfl rfl)
theorem dX0_init_71 : decode cX0_init 71 = .ok (.putfield 56, 3) := dk_181 0 56 (dk_at dksX0_init_3 2 rfl rfl)
theorem dX0_init_74 : decode cX0_init 74 = .ok (.aload_n 0, 1) := dk_42 (dk_at dksX0_init_3 5 rfl rfl)
theorem dX0_init_75 : decode cX0_init 75 = .ok (.bipush 40, 2) := dk_16 40 (dk_at dksX0_init_3 6 rfl rfl)
theorem dX0_init_77 : decode cX0_init 77 = .ok (.newarray .int, 2) := dk_188_10 (dk_at dksX0_init_3 8 rfl rfl)
theorem dX0_init_79 : decode cX0_init 79 = .ok (.putfield 59, 3) := dk_181 0 59 (dk_at dksX0_init_3 10 rfl rfl)
theorem dX0_init_82 : decode cX0_init 82 = .ok (.aload_n 0, 1) := dk_42 (dk_at dksX0_init_3 13 rfl rfl)
theorem dX0_init_83 : decode cX0_init 83 = .ok (.bipush 40, 2) := dk_16 40 (dk_at dksX0_init_3 14 rfl rfl)
theorem dX0_init_85 : decode cX0_init 85 = .ok (.newarray .int, 2) := dk_188_10 (dk_at dksX0_init_3 16 rfl rfl)
theorem dX0_init_87 : decode cX0_init 87 = .ok (.putfield 62, 3) := dk_181 0 62 (dk_at dksX0_init_3 18 rfl rfl)
theorem dX0_init_90 : decode cX0_init 90 = .ok (.aload_n 0, 1) := dk_42 (dk_at dksX0_init_3 21 rfl rfl)
theorem dX0_init_91 : decode cX0_init 91 = .ok (.sipush 1681, 3) := dk_17 6 145 (dk_at dksX0_init_4 0 rfl rfl)
theorem dX0_init_94 : decode cX0_init 94 = .ok (.newarray .long, 2) := dk_188_11 (dk_at dksX0_init_4 3 rfl rfl)
theorem dX0_init_96 : decode cX0_init 96 = .ok (.putfield 65, 3) := dk_181 0 65 (dk_at dksX0_init_4 5 rfl rfl)
theorem dX0_init_99 : decode cX0_init 99 = .ok (.aload_n 0, 1) := dk_42 (dk_at dksX0_init_4 8 rfl rfl)
theorem dX0_init_100 : decode cX0_init 100 = .ok (.sipush 1681, 3) := dk_17 6 145 (dk_at dksX0_init_4 9 rfl rfl)
theorem dX0_init_103 : decode cX0_init 103 = .ok (.newarray .int, 2) := dk_188_10 (dk_at dksX0_init_4 12 rfl rfl)
theorem dX0_init_105 : decode cX0_init 105 = .ok (.putfield 69, 3) := dk_181 0 69 (dk_at dksX0_init_4 14 rfl rfl)
theorem dX0_init_108 : decode cX0_init 108 = .ok (.aload_n 0, 1) := dk_42 (dk_at dksX0_init_4 17 rfl rfl)
theorem dX0_init_109 : decode cX0_init 109 = .ok (.sipush 1681, 3) := dk_17 6 145 (dk_at dksX0_init_4 18 rfl rfl)
theorem dX0_init_112 : decode cX0_init 112 = .ok (.newarray .int, 2) := dk_188_10 (dk_at dksX0_init_4 21 rfl rfl)
theorem dX0_init_114 : decode cX0_init 114 = .ok (.putfield 72, 3) := dk_181 0 72 (dk_at dksX0_init_5 0 rfl rfl)
theorem dX0_init_117 : decode cX0_init 117 = .ok (.aload_n 0, 1) := dk_42 (dk_at dksX0_init_5 3 rfl rfl)
theorem dX0_init_118 : decode cX0_init 118 = .ok (.sipush 1681, 3) := dk_17 6 145 (dk_at dksX0_init_5 4 rfl rfl)
theorem dX0_init_121 : decode cX0_init 121 = .ok (.newarray .int, 2) := dk_188_10 (dk_at dksX0_init_5 7 rfl rfl)
theorem dX0_init_123 : decode cX0_init 123 = .ok (.putfield 75, 3) := dk_181 0 75 (dk_at dksX0_init_5 9 rfl rfl)
theorem dX0_init_126 : decode cX0_init 126 = .ok (.aload_n 0, 1) := dk_42 (dk_at dksX0_init_5 12 rfl rfl)
theorem dX0_init_127 : decode cX0_init 127 = .ok (.iconst 4, 1) := dk_7 (dk_at dksX0_init_5 13 rfl rfl)
theorem dX0_init_128 : decode cX0_init 128 = .ok (.newarray .int, 2) := dk_188_10 (dk_at dksX0_init_5 14 rfl rfl)
theorem dX0_init_130 : decode cX0_init 130 = .ok (.putfield 78, 3) := dk_181 0 78 (dk_at dksX0_init_5 16 rfl rfl)
theorem dX0_init_133 : decode cX0_init 133 = .ok (.aload_n 0, 1) := dk_42 (dk_at dksX0_init_5 19 rfl rfl)
theorem dX0_init_134 : decode cX0_init 134 = .ok (.iconst 4, 1) := dk_7 (dk_at dksX0_init_5 20 rfl rfl)
theorem dX0_init_135 : decode cX0_init 135 = .ok (.newarray .int, 2) := dk_188_10 (dk_at dksX0_init_5 21 rfl rfl)
theorem dX0_init_137 : decode cX0_init 137 = .ok (.putfield 81, 3) := dk_181 0 81 (dk_at dksX0_init_6 0 rfl rfl)
theorem dX0_init_140 : decode cX0_init 140 = .ok (.aload_n 0, 1) := dk_42 (dk_at dksX0_init_6 3 rfl rfl)
theorem dX0_init_141 : decode cX0_init 141 = .ok (.sipush 984, 3) := dk_17 3 216 (dk_at dksX0_init_6 4 rfl rfl)
theorem dX0_init_144 : decode cX0_init 144 = .ok (.newarray .int, 2) := dk_188_10 (dk_at dksX0_init_6 7 rfl rfl)
theorem dX0_init_146 : decode cX0_init 146 = .ok (.putfield 84, 3) := dk_181 0 84 (dk_at dksX0_init_6 9 rfl rfl)
theorem dX0_init_149 : decode cX0_init 149 = .ok (.aload_n 0, 1) := dk_42 (dk_at dksX0_init_6 12 rfl rfl)
theorem dX0_init_150 : decode cX0_init 150 = .ok (.sipush 20000, 3) := dk_17 78 32 (dk_at dksX0_init_6 13 rfl rfl)
theorem dX0_init_153 : decode cX0_init 153 = .ok (.newarray .int, 2) := dk_188_10 (dk_at dksX0_init_6 16 rfl rfl)
theorem dX0_init_155 : decode cX0_init 155 = .ok (.putfield 87, 3) := dk_181 0 87 (dk_at dksX0_init_6 18 rfl rfl)
theorem dX0_init_158 : decode cX0_init 158 = .ok (.aload_n 0, 1) := dk_42 (dk_at dksX0_init_6 21 rfl rfl)
theorem dX0_init_159 : decode cX0_init 159 = .ok (.sipush 20000, 3) := dk_17 78 32 (dk_at dksX0_init_7 0 rfl rfl)
theorem dX0_init_162 : decode cX0_init 162 = .ok (.newarray .int, 2) := dk_188_10 (dk_at dksX0_init_7 3 rfl rfl)
theorem dX0_init_164 : decode cX0_init 164 = .ok (.putfield 90, 3) := dk_181 0 90 (dk_at dksX0_init_7 5 rfl rfl)
theorem dX0_init_167 : decode cX0_init 167 = .ok (.aload_n 0, 1) := dk_42 (dk_at dksX0_init_7 8 rfl rfl)
theorem dX0_init_168 : decode cX0_init 168 = .ok (.lconst 0, 1) := dk_9 (dk_at dksX0_init_7 9 rfl rfl)
theorem dX0_init_169 : decode cX0_init 169 = .ok (.putfield 14, 3) := dk_181 0 14 (dk_at dksX0_init_7 10 rfl rfl)
theorem dX0_init_172 : decode cX0_init 172 = .ok (.return_, 1) := dk_177 (dk_at dksX0_init_7 13 rfl rfl)
abbrev cX0_row : ByteArray := prog_1_method_9_code
def yX0_row : MethodName := ⟨RX0, "row", "(II)I"⟩
def dkwX0_row_1 : List UInt8 := [28, 172, 78, 42, 8, 182, 0, 103, 172]
abbrev dktX0_row_1 : List UInt8 := dkwX0_row_1 ++ []
def dkwX0_row_0 : List UInt8 := [27, 184, 0, 97, 153, 0, 9, 28, 16, 40, 164, 0, 5, 2, 172, 42, 180, 0, 34, 27, 28, 188, 10, 83]
abbrev dktX0_row_0 : List UInt8 := dkwX0_row_0 ++ dktX0_row_1
theorem dksX0_row_0 : cX0_row.data.toList.drop 0 = dktX0_row_0 := by decide +kernel
theorem dksX0_row_1 : cX0_row.data.toList.drop 24 = dktX0_row_1 := dk_seg dksX0_row_0 24 rfl rfl
theorem dX0_row_0 : decode cX0_row 0 = .ok (.iload_n 1, 1) := dk_27 (dk_at dksX0_row_0 0 rfl rfl)
theorem dX0_row_1 : decode cX0_row 1 = .ok (.invokestatic 97, 3) := dk_184 0 97 (dk_at dksX0_row_0 1 rfl rfl)
theorem dX0_row_4 : decode cX0_row 4 = .ok (.ifCond .eq 9, 3) := dk_153 0 9 (dk_at dksX0_row_0 4 rfl rfl)
theorem dX0_row_7 : decode cX0_row 7 = .ok (.iload_n 2, 1) := dk_28 (dk_at dksX0_row_0 7 rfl rfl)
theorem dX0_row_8 : decode cX0_row 8 = .ok (.bipush 40, 2) := dk_16 40 (dk_at dksX0_row_0 8 rfl rfl)
theorem dX0_row_10 : decode cX0_row 10 = .ok (.if_icmp .le 5, 3) := dk_164 0 5 (dk_at dksX0_row_0 10 rfl rfl)
theorem dX0_row_13 : decode cX0_row 13 = .ok (.iconst (-1), 1) := dk_2 (dk_at dksX0_row_0 13 rfl rfl)
theorem dX0_row_14 : decode cX0_row 14 = .ok (.ireturn, 1) := dk_172 (dk_at dksX0_row_0 14 rfl rfl)
theorem dX0_row_15 : decode cX0_row 15 = .ok (.aload_n 0, 1) := dk_42 (dk_at dksX0_row_0 15 rfl rfl)
theorem dX0_row_16 : decode cX0_row 16 = .ok (.getfield 34, 3) := dk_180 0 34 (dk_at dksX0_row_0 16 rfl rfl)
theorem dX0_row_19 : decode cX0_row 19 = .ok (.iload_n 1, 1) := dk_27 (dk_at dksX0_row_0 19 rfl rfl)
theorem dX0_row_20 : decode cX0_row 20 = .ok (.iload_n 2, 1) := dk_28 (dk_at dksX0_row_0 20 rfl rfl)
theorem dX0_row_21 : decode cX0_row 21 = .ok (.newarray .int, 2) := dk_188_10 (dk_at dksX0_row_0 21 rfl rfl)
theorem dX0_row_23 : decode cX0_row 23 = .ok (.aastore, 1) := dk_83 (dk_at dksX0_row_0 23 rfl rfl)
theorem dX0_row_24 : decode cX0_row 24 = .ok (.iload_n 2, 1) := dk_28 (dk_at dksX0_row_1 0 rfl rfl)
theorem dX0_row_25 : decode cX0_row 25 = .ok (.ireturn, 1) := dk_172 (dk_at dksX0_row_1 1 rfl rfl)
theorem dX0_row_26 : decode cX0_row 26 = .ok (.astore_n 3, 1) := dk_78 (dk_at dksX0_row_1 2 rfl rfl)
theorem dX0_row_27 : decode cX0_row 27 = .ok (.aload_n 0, 1) := dk_42 (dk_at dksX0_row_1 3 rfl rfl)
theorem dX0_row_28 : decode cX0_row 28 = .ok (.iconst 5, 1) := dk_8 (dk_at dksX0_row_1 4 rfl rfl)
theorem dX0_row_29 : decode cX0_row 29 = .ok (.invokevirtual 103, 3) := dk_182 0 103 (dk_at dksX0_row_1 5 rfl rfl)
theorem dX0_row_32 : decode cX0_row 32 = .ok (.ireturn, 1) := dk_172 (dk_at dksX0_row_1 8 rfl rfl)
abbrev cX0_isRow : ByteArray := prog_1_method_7_code
def yX0_isRow : MethodName := ⟨RX0, "isRow", "(I)Z"⟩
def dkwX0_isRow_0 : List UInt8 := [26, 3, 8, 184, 0, 93, 172]
abbrev dktX0_isRow_0 : List UInt8 := dkwX0_isRow_0 ++ []
theorem dksX0_isRow_0 : cX0_isRow.data.toList.drop 0 = dktX0_isRow_0 := by decide +kernel
theorem dX0_isRow_0 : decode cX0_isRow 0 = .ok (.iload_n 0, 1) := dk_26 (dk_at dksX0_isRow_0 0 rfl rfl)
theorem dX0_isRow_1 : decode cX0_isRow 1 = .ok (.iconst 0, 1) := dk_3 (dk_at dksX0_isRow_0 1 rfl rfl)
theorem dX0_isRow_2 : decode cX0_isRow 2 = .ok (.iconst 5, 1) := dk_8 (dk_at dksX0_isRow_0 2 rfl rfl)
theorem dX0_isRow_3 : decode cX0_isRow 3 = .ok (.invokestatic 93, 3) := dk_184 0 93 (dk_at dksX0_isRow_0 3 rfl rfl)
theorem dX0_isRow_6 : decode cX0_isRow 6 = .ok (.ireturn, 1) := dk_172 (dk_at dksX0_isRow_0 6 rfl rfl)
abbrev cX0_isIn : ByteArray := prog_1_method_1_code
def yX0_isIn : MethodName := ⟨RX0, "isIn", "(III)Z"⟩
def dkwX0_isIn_0 : List UInt8 := [26, 27, 161, 0, 12, 26, 28, 163, 0, 7, 4, 167, 0, 4, 3, 172]
abbrev dktX0_isIn_0 : List UInt8 := dkwX0_isIn_0 ++ []
theorem dksX0_isIn_0 : cX0_isIn.data.toList.drop 0 = dktX0_isIn_0 := by decide +kernel
theorem dX0_isIn_0 : decode cX0_isIn 0 = .ok (.iload_n 0, 1) := dk_26 (dk_at dksX0_isIn_0 0 rfl rfl)
theorem dX0_isIn_1 : decode cX0_isIn 1 = .ok (.iload_n 1, 1) := dk_27 (dk_at dksX0_isIn_0 1 rfl rfl)
theorem dX0_isIn_2 : decode cX0_isIn 2 = .ok (.if_icmp .lt 12, 3) := dk_161 0 12 (dk_at dksX0_isIn_0 2 rfl rfl)
theorem dX0_isIn_5 : decode cX0_isIn 5 = .ok (.iload_n 0, 1) := dk_26 (dk_at dksX0_isIn_0 5 rfl rfl)
theorem dX0_isIn_6 : decode cX0_isIn 6 = .ok (.iload_n 2, 1) := dk_28 (dk_at dksX0_isIn_0 6 rfl rfl)
theorem dX0_isIn_7 : decode cX0_isIn 7 = .ok (.if_icmp .gt 7, 3) := dk_163 0 7 (dk_at dksX0_isIn_0 7 rfl rfl)
theorem dX0_isIn_10 : decode cX0_isIn 10 = .ok (.iconst 1, 1) := dk_4 (dk_at dksX0_isIn_0 10 rfl rfl)
theorem dX0_isIn_11 : decode cX0_isIn 11 = .ok (.goto 4, 3) := dk_167 0 4 (dk_at dksX0_isIn_0 11 rfl rfl)
theorem dX0_isIn_14 : decode cX0_isIn 14 = .ok (.iconst 0, 1) := dk_3 (dk_at dksX0_isIn_0 14 rfl rfl)
theorem dX0_isIn_15 : decode cX0_isIn 15 = .ok (.ireturn, 1) := dk_172 (dk_at dksX0_isIn_0 15 rfl rfl)
abbrev cX0_met : ByteArray := prog_1_method_2_code
def yX0_met : MethodName := ⟨RX0, "met", "(I)I"⟩
def dkwX0_met_0 : List UInt8 := [42, 27, 181, 0, 1, 42, 180, 0, 7, 27, 92, 46, 4, 96, 79, 16, 253, 172]
abbrev dktX0_met_0 : List UInt8 := dkwX0_met_0 ++ []
theorem dksX0_met_0 : cX0_met.data.toList.drop 0 = dktX0_met_0 := by decide +kernel
theorem dX0_met_0 : decode cX0_met 0 = .ok (.aload_n 0, 1) := dk_42 (dk_at dksX0_met_0 0 rfl rfl)
theorem dX0_met_1 : decode cX0_met 1 = .ok (.iload_n 1, 1) := dk_27 (dk_at dksX0_met_0 1 rfl rfl)
theorem dX0_met_2 : decode cX0_met 2 = .ok (.putfield 1, 3) := dk_181 0 1 (dk_at dksX0_met_0 2 rfl rfl)
theorem dX0_met_5 : decode cX0_met 5 = .ok (.aload_n 0, 1) := dk_42 (dk_at dksX0_met_0 5 rfl rfl)
theorem dX0_met_6 : decode cX0_met 6 = .ok (.getfield 7, 3) := dk_180 0 7 (dk_at dksX0_met_0 6 rfl rfl)
theorem dX0_met_9 : decode cX0_met 9 = .ok (.iload_n 1, 1) := dk_27 (dk_at dksX0_met_0 9 rfl rfl)
theorem dX0_met_10 : decode cX0_met 10 = .ok (.dup2, 1) := dk_92 (dk_at dksX0_met_0 10 rfl rfl)
theorem dX0_met_11 : decode cX0_met 11 = .ok (.iaload, 1) := dk_46 (dk_at dksX0_met_0 11 rfl rfl)
theorem dX0_met_12 : decode cX0_met 12 = .ok (.iconst 1, 1) := dk_4 (dk_at dksX0_met_0 12 rfl rfl)
theorem dX0_met_13 : decode cX0_met 13 = .ok (.iadd, 1) := dk_96 (dk_at dksX0_met_0 13 rfl rfl)
theorem dX0_met_14 : decode cX0_met 14 = .ok (.iastore, 1) := dk_79 (dk_at dksX0_met_0 14 rfl rfl)
theorem dX0_met_15 : decode cX0_met 15 = .ok (.bipush (-3), 2) := dk_16 253 (dk_at dksX0_met_0 15 rfl rfl)
theorem dX0_met_17 : decode cX0_met 17 = .ok (.ireturn, 1) := dk_172 (dk_at dksX0_met_0 17 rfl rfl)
abbrev cX0_lay : ByteArray := prog_1_method_10_code
def yX0_lay : MethodName := ⟨RX0, "lay", "(III)I"⟩
def dkwX0_lay_1 : List UInt8 := [21, 4, 172]
abbrev dktX0_lay_1 : List UInt8 := dkwX0_lay_1 ++ []
def dkwX0_lay_0 : List UInt8 := [42, 27, 28, 182, 0, 107, 54, 4, 21, 4, 4, 160, 0, 12, 42, 180, 0, 34, 27, 50, 28, 29, 79]
abbrev dktX0_lay_0 : List UInt8 := dkwX0_lay_0 ++ dktX0_lay_1
theorem dksX0_lay_0 : cX0_lay.data.toList.drop 0 = dktX0_lay_0 := by decide +kernel
theorem dksX0_lay_1 : cX0_lay.data.toList.drop 23 = dktX0_lay_1 := dk_seg dksX0_lay_0 23 rfl rfl
theorem dX0_lay_0 : decode cX0_lay 0 = .ok (.aload_n 0, 1) := dk_42 (dk_at dksX0_lay_0 0 rfl rfl)
theorem dX0_lay_1 : decode cX0_lay 1 = .ok (.iload_n 1, 1) := dk_27 (dk_at dksX0_lay_0 1 rfl rfl)
theorem dX0_lay_2 : decode cX0_lay 2 = .ok (.iload_n 2, 1) := dk_28 (dk_at dksX0_lay_0 2 rfl rfl)
theorem dX0_lay_3 : decode cX0_lay 3 = .ok (.invokevirtual 107, 3) := dk_182 0 107 (dk_at dksX0_lay_0 3 rfl rfl)
theorem dX0_lay_6 : decode cX0_lay 6 = .ok (.istore 4, 2) := dk_54 4 (dk_at dksX0_lay_0 6 rfl rfl)
theorem dX0_lay_8 : decode cX0_lay 8 = .ok (.iload 4, 2) := dk_21 4 (dk_at dksX0_lay_0 8 rfl rfl)
theorem dX0_lay_10 : decode cX0_lay 10 = .ok (.iconst 1, 1) := dk_4 (dk_at dksX0_lay_0 10 rfl rfl)
theorem dX0_lay_11 : decode cX0_lay 11 = .ok (.if_icmp .ne 12, 3) := dk_160 0 12 (dk_at dksX0_lay_0 11 rfl rfl)
theorem dX0_lay_14 : decode cX0_lay 14 = .ok (.aload_n 0, 1) := dk_42 (dk_at dksX0_lay_0 14 rfl rfl)
theorem dX0_lay_15 : decode cX0_lay 15 = .ok (.getfield 34, 3) := dk_180 0 34 (dk_at dksX0_lay_0 15 rfl rfl)
theorem dX0_lay_18 : decode cX0_lay 18 = .ok (.iload_n 1, 1) := dk_27 (dk_at dksX0_lay_0 18 rfl rfl)
theorem dX0_lay_19 : decode cX0_lay 19 = .ok (.aaload, 1) := dk_50 (dk_at dksX0_lay_0 19 rfl rfl)
theorem dX0_lay_20 : decode cX0_lay 20 = .ok (.iload_n 2, 1) := dk_28 (dk_at dksX0_lay_0 20 rfl rfl)
theorem dX0_lay_21 : decode cX0_lay 21 = .ok (.iload_n 3, 1) := dk_29 (dk_at dksX0_lay_0 21 rfl rfl)
theorem dX0_lay_22 : decode cX0_lay 22 = .ok (.iastore, 1) := dk_79 (dk_at dksX0_lay_0 22 rfl rfl)
theorem dX0_lay_23 : decode cX0_lay 23 = .ok (.iload 4, 2) := dk_21 4 (dk_at dksX0_lay_1 0 rfl rfl)
theorem dX0_lay_25 : decode cX0_lay 25 = .ok (.ireturn, 1) := dk_172 (dk_at dksX0_lay_1 2 rfl rfl)
abbrev cX0_at : ByteArray := prog_1_method_11_code
def yX0_at : MethodName := ⟨RX0, "at", "(II)I"⟩
def dkwX0_at_1 : List UInt8 := [42, 4, 182, 0, 103, 172, 78, 42, 5, 182, 0, 103, 172]
abbrev dktX0_at_1 : List UInt8 := dkwX0_at_1 ++ []
def dkwX0_at_0 : List UInt8 := [27, 184, 0, 97, 154, 0, 5, 2, 172, 42, 42, 180, 0, 34, 27, 50, 28, 46, 4, 182, 0, 111, 172, 78]
abbrev dktX0_at_0 : List UInt8 := dkwX0_at_0 ++ dktX0_at_1
theorem dksX0_at_0 : cX0_at.data.toList.drop 0 = dktX0_at_0 := by decide +kernel
theorem dksX0_at_1 : cX0_at.data.toList.drop 24 = dktX0_at_1 := dk_seg dksX0_at_0 24 rfl rfl
theorem dX0_at_0 : decode cX0_at 0 = .ok (.iload_n 1, 1) := dk_27 (dk_at dksX0_at_0 0 rfl rfl)
theorem dX0_at_1 : decode cX0_at 1 = .ok (.invokestatic 97, 3) := dk_184 0 97 (dk_at dksX0_at_0 1 rfl rfl)
theorem dX0_at_4 : decode cX0_at 4 = .ok (.ifCond .ne 5, 3) := dk_154 0 5 (dk_at dksX0_at_0 4 rfl rfl)
theorem dX0_at_7 : decode cX0_at 7 = .ok (.iconst (-1), 1) := dk_2 (dk_at dksX0_at_0 7 rfl rfl)
theorem dX0_at_8 : decode cX0_at 8 = .ok (.ireturn, 1) := dk_172 (dk_at dksX0_at_0 8 rfl rfl)
theorem dX0_at_9 : decode cX0_at 9 = .ok (.aload_n 0, 1) := dk_42 (dk_at dksX0_at_0 9 rfl rfl)
theorem dX0_at_10 : decode cX0_at 10 = .ok (.aload_n 0, 1) := dk_42 (dk_at dksX0_at_0 10 rfl rfl)
theorem dX0_at_11 : decode cX0_at 11 = .ok (.getfield 34, 3) := dk_180 0 34 (dk_at dksX0_at_0 11 rfl rfl)
theorem dX0_at_14 : decode cX0_at 14 = .ok (.iload_n 1, 1) := dk_27 (dk_at dksX0_at_0 14 rfl rfl)
theorem dX0_at_15 : decode cX0_at 15 = .ok (.aaload, 1) := dk_50 (dk_at dksX0_at_0 15 rfl rfl)
theorem dX0_at_16 : decode cX0_at 16 = .ok (.iload_n 2, 1) := dk_28 (dk_at dksX0_at_0 16 rfl rfl)
theorem dX0_at_17 : decode cX0_at 17 = .ok (.iaload, 1) := dk_46 (dk_at dksX0_at_0 17 rfl rfl)
theorem dX0_at_18 : decode cX0_at 18 = .ok (.iconst 1, 1) := dk_4 (dk_at dksX0_at_0 18 rfl rfl)
theorem dX0_at_19 : decode cX0_at 19 = .ok (.invokevirtual 111, 3) := dk_182 0 111 (dk_at dksX0_at_0 19 rfl rfl)
theorem dX0_at_22 : decode cX0_at 22 = .ok (.ireturn, 1) := dk_172 (dk_at dksX0_at_0 22 rfl rfl)
theorem dX0_at_23 : decode cX0_at 23 = .ok (.astore_n 3, 1) := dk_78 (dk_at dksX0_at_0 23 rfl rfl)
theorem dX0_at_24 : decode cX0_at 24 = .ok (.aload_n 0, 1) := dk_42 (dk_at dksX0_at_1 0 rfl rfl)
theorem dX0_at_25 : decode cX0_at 25 = .ok (.iconst 1, 1) := dk_4 (dk_at dksX0_at_1 1 rfl rfl)
theorem dX0_at_26 : decode cX0_at 26 = .ok (.invokevirtual 103, 3) := dk_182 0 103 (dk_at dksX0_at_1 2 rfl rfl)
theorem dX0_at_29 : decode cX0_at 29 = .ok (.ireturn, 1) := dk_172 (dk_at dksX0_at_1 5 rfl rfl)
theorem dX0_at_30 : decode cX0_at 30 = .ok (.astore_n 3, 1) := dk_78 (dk_at dksX0_at_1 6 rfl rfl)
theorem dX0_at_31 : decode cX0_at 31 = .ok (.aload_n 0, 1) := dk_42 (dk_at dksX0_at_1 7 rfl rfl)
theorem dX0_at_32 : decode cX0_at 32 = .ok (.iconst 2, 1) := dk_5 (dk_at dksX0_at_1 8 rfl rfl)
theorem dX0_at_33 : decode cX0_at 33 = .ok (.invokevirtual 103, 3) := dk_182 0 103 (dk_at dksX0_at_1 9 rfl rfl)
theorem dX0_at_36 : decode cX0_at 36 = .ok (.ireturn, 1) := dk_172 (dk_at dksX0_at_1 12 rfl rfl)
abbrev cX0_ask : ByteArray := prog_1_method_3_code
def yX0_ask : MethodName := ⟨RX0, "ask", "(II)I"⟩
def dkwX0_ask_0 : List UInt8 := [42, 27, 181, 0, 11, 28, 172]
abbrev dktX0_ask_0 : List UInt8 := dkwX0_ask_0 ++ []
theorem dksX0_ask_0 : cX0_ask.data.toList.drop 0 = dktX0_ask_0 := by decide +kernel
theorem dX0_ask_0 : decode cX0_ask 0 = .ok (.aload_n 0, 1) := dk_42 (dk_at dksX0_ask_0 0 rfl rfl)
theorem dX0_ask_1 : decode cX0_ask 1 = .ok (.iload_n 1, 1) := dk_27 (dk_at dksX0_ask_0 1 rfl rfl)
theorem dX0_ask_2 : decode cX0_ask 2 = .ok (.putfield 11, 3) := dk_181 0 11 (dk_at dksX0_ask_0 2 rfl rfl)
theorem dX0_ask_5 : decode cX0_ask 5 = .ok (.iload_n 2, 1) := dk_28 (dk_at dksX0_ask_0 5 rfl rfl)
theorem dX0_ask_6 : decode cX0_ask 6 = .ok (.ireturn, 1) := dk_172 (dk_at dksX0_ask_0 6 rfl rfl)
abbrev cX0_tear : ByteArray := prog_1_method_12_code
def yX0_tear : MethodName := ⟨RX0, "tear", "(I)I"⟩
def dkwX0_tear_1 : List UInt8 := [4, 172, 77, 42, 4, 182, 0, 103, 172]
abbrev dktX0_tear_1 : List UInt8 := dkwX0_tear_1 ++ []
def dkwX0_tear_0 : List UInt8 := [27, 184, 0, 97, 154, 0, 5, 2, 172, 42, 180, 0, 34, 27, 50, 190, 61, 42, 180, 0, 34, 27, 1, 83]
abbrev dktX0_tear_0 : List UInt8 := dkwX0_tear_0 ++ dktX0_tear_1
theorem dksX0_tear_0 : cX0_tear.data.toList.drop 0 = dktX0_tear_0 := by decide +kernel
theorem dksX0_tear_1 : cX0_tear.data.toList.drop 24 = dktX0_tear_1 := dk_seg dksX0_tear_0 24 rfl rfl
theorem dX0_tear_0 : decode cX0_tear 0 = .ok (.iload_n 1, 1) := dk_27 (dk_at dksX0_tear_0 0 rfl rfl)
theorem dX0_tear_1 : decode cX0_tear 1 = .ok (.invokestatic 97, 3) := dk_184 0 97 (dk_at dksX0_tear_0 1 rfl rfl)
theorem dX0_tear_4 : decode cX0_tear 4 = .ok (.ifCond .ne 5, 3) := dk_154 0 5 (dk_at dksX0_tear_0 4 rfl rfl)
theorem dX0_tear_7 : decode cX0_tear 7 = .ok (.iconst (-1), 1) := dk_2 (dk_at dksX0_tear_0 7 rfl rfl)
theorem dX0_tear_8 : decode cX0_tear 8 = .ok (.ireturn, 1) := dk_172 (dk_at dksX0_tear_0 8 rfl rfl)
theorem dX0_tear_9 : decode cX0_tear 9 = .ok (.aload_n 0, 1) := dk_42 (dk_at dksX0_tear_0 9 rfl rfl)
theorem dX0_tear_10 : decode cX0_tear 10 = .ok (.getfield 34, 3) := dk_180 0 34 (dk_at dksX0_tear_0 10 rfl rfl)
theorem dX0_tear_13 : decode cX0_tear 13 = .ok (.iload_n 1, 1) := dk_27 (dk_at dksX0_tear_0 13 rfl rfl)
theorem dX0_tear_14 : decode cX0_tear 14 = .ok (.aaload, 1) := dk_50 (dk_at dksX0_tear_0 14 rfl rfl)
theorem dX0_tear_15 : decode cX0_tear 15 = .ok (.arraylength, 1) := dk_190 (dk_at dksX0_tear_0 15 rfl rfl)
theorem dX0_tear_16 : decode cX0_tear 16 = .ok (.istore_n 2, 1) := dk_61 (dk_at dksX0_tear_0 16 rfl rfl)
theorem dX0_tear_17 : decode cX0_tear 17 = .ok (.aload_n 0, 1) := dk_42 (dk_at dksX0_tear_0 17 rfl rfl)
theorem dX0_tear_18 : decode cX0_tear 18 = .ok (.getfield 34, 3) := dk_180 0 34 (dk_at dksX0_tear_0 18 rfl rfl)
theorem dX0_tear_21 : decode cX0_tear 21 = .ok (.iload_n 1, 1) := dk_27 (dk_at dksX0_tear_0 21 rfl rfl)
theorem dX0_tear_22 : decode cX0_tear 22 = .ok (.aconst_null, 1) := dk_1 (dk_at dksX0_tear_0 22 rfl rfl)
theorem dX0_tear_23 : decode cX0_tear 23 = .ok (.aastore, 1) := dk_83 (dk_at dksX0_tear_0 23 rfl rfl)
theorem dX0_tear_24 : decode cX0_tear 24 = .ok (.iconst 1, 1) := dk_4 (dk_at dksX0_tear_1 0 rfl rfl)
theorem dX0_tear_25 : decode cX0_tear 25 = .ok (.ireturn, 1) := dk_172 (dk_at dksX0_tear_1 1 rfl rfl)
theorem dX0_tear_26 : decode cX0_tear 26 = .ok (.astore_n 2, 1) := dk_77 (dk_at dksX0_tear_1 2 rfl rfl)
theorem dX0_tear_27 : decode cX0_tear 27 = .ok (.aload_n 0, 1) := dk_42 (dk_at dksX0_tear_1 3 rfl rfl)
theorem dX0_tear_28 : decode cX0_tear 28 = .ok (.iconst 1, 1) := dk_4 (dk_at dksX0_tear_1 4 rfl rfl)
theorem dX0_tear_29 : decode cX0_tear 29 = .ok (.invokevirtual 103, 3) := dk_182 0 103 (dk_at dksX0_tear_1 5 rfl rfl)
theorem dX0_tear_32 : decode cX0_tear 32 = .ok (.ireturn, 1) := dk_172 (dk_at dksX0_tear_1 8 rfl rfl)
abbrev cX0_copy : ByteArray := prog_1_method_13_code
def yX0_copy : MethodName := ⟨RX0, "copy", "(IIIII)I"⟩
def dkwX0_copy_2 : List UInt8 := [4, 172, 58, 6, 42, 4, 182, 0, 103, 172, 58, 6, 42, 5, 182, 0, 103, 172]
abbrev dktX0_copy_2 : List UInt8 := dkwX0_copy_2 ++ []
def dkwX0_copy_1 : List UInt8 := [182, 0, 103, 172, 42, 180, 0, 34, 27, 50, 28, 42, 180, 0, 34, 29, 50, 21, 4, 21, 5, 184, 0, 118]
abbrev dktX0_copy_1 : List UInt8 := dkwX0_copy_1 ++ dktX0_copy_2
def dkwX0_copy_0 : List UInt8 := [27, 184, 0, 97, 153, 0, 10, 29, 184, 0, 97, 154, 0, 5, 2, 172, 21, 5, 156, 0, 9, 42, 8]
abbrev dktX0_copy_0 : List UInt8 := dkwX0_copy_0 ++ dktX0_copy_1
theorem dksX0_copy_0 : cX0_copy.data.toList.drop 0 = dktX0_copy_0 := by decide +kernel
theorem dksX0_copy_1 : cX0_copy.data.toList.drop 23 = dktX0_copy_1 := dk_seg dksX0_copy_0 23 rfl rfl
theorem dksX0_copy_2 : cX0_copy.data.toList.drop 47 = dktX0_copy_2 := dk_seg dksX0_copy_1 24 rfl rfl
theorem dX0_copy_0 : decode cX0_copy 0 = .ok (.iload_n 1, 1) := dk_27 (dk_at dksX0_copy_0 0 rfl rfl)
theorem dX0_copy_1 : decode cX0_copy 1 = .ok (.invokestatic 97, 3) := dk_184 0 97 (dk_at dksX0_copy_0 1 rfl rfl)
theorem dX0_copy_4 : decode cX0_copy 4 = .ok (.ifCond .eq 10, 3) := dk_153 0 10 (dk_at dksX0_copy_0 4 rfl rfl)
theorem dX0_copy_7 : decode cX0_copy 7 = .ok (.iload_n 3, 1) := dk_29 (dk_at dksX0_copy_0 7 rfl rfl)
theorem dX0_copy_8 : decode cX0_copy 8 = .ok (.invokestatic 97, 3) := dk_184 0 97 (dk_at dksX0_copy_0 8 rfl rfl)
theorem dX0_copy_11 : decode cX0_copy 11 = .ok (.ifCond .ne 5, 3) := dk_154 0 5 (dk_at dksX0_copy_0 11 rfl rfl)
theorem dX0_copy_14 : decode cX0_copy 14 = .ok (.iconst (-1), 1) := dk_2 (dk_at dksX0_copy_0 14 rfl rfl)
theorem dX0_copy_15 : decode cX0_copy 15 = .ok (.ireturn, 1) := dk_172 (dk_at dksX0_copy_0 15 rfl rfl)
theorem dX0_copy_16 : decode cX0_copy 16 = .ok (.iload 5, 2) := dk_21 5 (dk_at dksX0_copy_0 16 rfl rfl)
theorem dX0_copy_18 : decode cX0_copy 18 = .ok (.ifCond .ge 9, 3) := dk_156 0 9 (dk_at dksX0_copy_0 18 rfl rfl)
theorem dX0_copy_21 : decode cX0_copy 21 = .ok (.aload_n 0, 1) := dk_42 (dk_at dksX0_copy_0 21 rfl rfl)
theorem dX0_copy_22 : decode cX0_copy 22 = .ok (.iconst 5, 1) := dk_8 (dk_at dksX0_copy_0 22 rfl rfl)
theorem dX0_copy_23 : decode cX0_copy 23 = .ok (.invokevirtual 103, 3) := dk_182 0 103 (dk_at dksX0_copy_1 0 rfl rfl)
theorem dX0_copy_26 : decode cX0_copy 26 = .ok (.ireturn, 1) := dk_172 (dk_at dksX0_copy_1 3 rfl rfl)
theorem dX0_copy_27 : decode cX0_copy 27 = .ok (.aload_n 0, 1) := dk_42 (dk_at dksX0_copy_1 4 rfl rfl)
theorem dX0_copy_28 : decode cX0_copy 28 = .ok (.getfield 34, 3) := dk_180 0 34 (dk_at dksX0_copy_1 5 rfl rfl)
theorem dX0_copy_31 : decode cX0_copy 31 = .ok (.iload_n 1, 1) := dk_27 (dk_at dksX0_copy_1 8 rfl rfl)
theorem dX0_copy_32 : decode cX0_copy 32 = .ok (.aaload, 1) := dk_50 (dk_at dksX0_copy_1 9 rfl rfl)
theorem dX0_copy_33 : decode cX0_copy 33 = .ok (.iload_n 2, 1) := dk_28 (dk_at dksX0_copy_1 10 rfl rfl)
theorem dX0_copy_34 : decode cX0_copy 34 = .ok (.aload_n 0, 1) := dk_42 (dk_at dksX0_copy_1 11 rfl rfl)
theorem dX0_copy_35 : decode cX0_copy 35 = .ok (.getfield 34, 3) := dk_180 0 34 (dk_at dksX0_copy_1 12 rfl rfl)
theorem dX0_copy_38 : decode cX0_copy 38 = .ok (.iload_n 3, 1) := dk_29 (dk_at dksX0_copy_1 15 rfl rfl)
theorem dX0_copy_39 : decode cX0_copy 39 = .ok (.aaload, 1) := dk_50 (dk_at dksX0_copy_1 16 rfl rfl)
theorem dX0_copy_40 : decode cX0_copy 40 = .ok (.iload 4, 2) := dk_21 4 (dk_at dksX0_copy_1 17 rfl rfl)
theorem dX0_copy_42 : decode cX0_copy 42 = .ok (.iload 5, 2) := dk_21 5 (dk_at dksX0_copy_1 19 rfl rfl)
theorem dX0_copy_44 : decode cX0_copy 44 = .ok (.invokestatic 118, 3) := dk_184 0 118 (dk_at dksX0_copy_1 21 rfl rfl)
theorem dX0_copy_47 : decode cX0_copy 47 = .ok (.iconst 1, 1) := dk_4 (dk_at dksX0_copy_2 0 rfl rfl)
theorem dX0_copy_48 : decode cX0_copy 48 = .ok (.ireturn, 1) := dk_172 (dk_at dksX0_copy_2 1 rfl rfl)
theorem dX0_copy_49 : decode cX0_copy 49 = .ok (.astore 6, 2) := dk_58 6 (dk_at dksX0_copy_2 2 rfl rfl)
theorem dX0_copy_51 : decode cX0_copy 51 = .ok (.aload_n 0, 1) := dk_42 (dk_at dksX0_copy_2 4 rfl rfl)
theorem dX0_copy_52 : decode cX0_copy 52 = .ok (.iconst 1, 1) := dk_4 (dk_at dksX0_copy_2 5 rfl rfl)
theorem dX0_copy_53 : decode cX0_copy 53 = .ok (.invokevirtual 103, 3) := dk_182 0 103 (dk_at dksX0_copy_2 6 rfl rfl)
theorem dX0_copy_56 : decode cX0_copy 56 = .ok (.ireturn, 1) := dk_172 (dk_at dksX0_copy_2 9 rfl rfl)
theorem dX0_copy_57 : decode cX0_copy 57 = .ok (.astore 6, 2) := dk_58 6 (dk_at dksX0_copy_2 10 rfl rfl)
theorem dX0_copy_59 : decode cX0_copy 59 = .ok (.aload_n 0, 1) := dk_42 (dk_at dksX0_copy_2 12 rfl rfl)
theorem dX0_copy_60 : decode cX0_copy 60 = .ok (.iconst 2, 1) := dk_5 (dk_at dksX0_copy_2 13 rfl rfl)
theorem dX0_copy_61 : decode cX0_copy 61 = .ok (.invokevirtual 103, 3) := dk_182 0 103 (dk_at dksX0_copy_2 14 rfl rfl)
theorem dX0_copy_64 : decode cX0_copy 64 = .ok (.ireturn, 1) := dk_172 (dk_at dksX0_copy_2 17 rfl rfl)
abbrev cX0_mean : ByteArray := prog_1_method_14_code
def yX0_mean : MethodName := ⟨RX0, "mean", "(I)I"⟩
def dkwX0_mean_3 : List UInt8 := [42, 4, 182, 0, 103, 172, 77, 42, 7, 182, 0, 103, 172]
abbrev dktX0_mean_3 : List UInt8 := dkwX0_mean_3 ++ []
def dkwX0_mean_2 : List UInt8 := [132, 6, 1, 167, 255, 233, 42, 32, 42, 180, 0, 34, 27, 50, 190, 133, 109, 136, 4, 182, 0, 111, 172, 77]
abbrev dktX0_mean_2 : List UInt8 := dkwX0_mean_2 ++ dktX0_mean_3
def dkwX0_mean_1 : List UInt8 := [3, 54, 6, 21, 6, 21, 5, 162, 0, 22, 25, 4, 21, 6, 46, 54, 7, 32, 21, 7, 133, 97, 65]
abbrev dktX0_mean_1 : List UInt8 := dkwX0_mean_1 ++ dktX0_mean_2
def dkwX0_mean_0 : List UInt8 := [27, 184, 0, 97, 154, 0, 5, 2, 172, 9, 65, 42, 180, 0, 34, 27, 50, 58, 4, 25, 4, 190, 54, 5]
abbrev dktX0_mean_0 : List UInt8 := dkwX0_mean_0 ++ dktX0_mean_1
theorem dksX0_mean_0 : cX0_mean.data.toList.drop 0 = dktX0_mean_0 := by decide +kernel
theorem dksX0_mean_1 : cX0_mean.data.toList.drop 24 = dktX0_mean_1 := dk_seg dksX0_mean_0 24 rfl rfl
theorem dksX0_mean_2 : cX0_mean.data.toList.drop 47 = dktX0_mean_2 := dk_seg dksX0_mean_1 23 rfl rfl
theorem dksX0_mean_3 : cX0_mean.data.toList.drop 71 = dktX0_mean_3 := dk_seg dksX0_mean_2 24 rfl rfl
theorem dX0_mean_0 : decode cX0_mean 0 = .ok (.iload_n 1, 1) := dk_27 (dk_at dksX0_mean_0 0 rfl rfl)
theorem dX0_mean_1 : decode cX0_mean 1 = .ok (.invokestatic 97, 3) := dk_184 0 97 (dk_at dksX0_mean_0 1 rfl rfl)
theorem dX0_mean_4 : decode cX0_mean 4 = .ok (.ifCond .ne 5, 3) := dk_154 0 5 (dk_at dksX0_mean_0 4 rfl rfl)
theorem dX0_mean_7 : decode cX0_mean 7 = .ok (.iconst (-1), 1) := dk_2 (dk_at dksX0_mean_0 7 rfl rfl)
theorem dX0_mean_8 : decode cX0_mean 8 = .ok (.ireturn, 1) := dk_172 (dk_at dksX0_mean_0 8 rfl rfl)
theorem dX0_mean_9 : decode cX0_mean 9 = .ok (.lconst 0, 1) := dk_9 (dk_at dksX0_mean_0 9 rfl rfl)
theorem dX0_mean_10 : decode cX0_mean 10 = .ok (.lstore_n 2, 1) := dk_65 (dk_at dksX0_mean_0 10 rfl rfl)
theorem dX0_mean_11 : decode cX0_mean 11 = .ok (.aload_n 0, 1) := dk_42 (dk_at dksX0_mean_0 11 rfl rfl)
theorem dX0_mean_12 : decode cX0_mean 12 = .ok (.getfield 34, 3) := dk_180 0 34 (dk_at dksX0_mean_0 12 rfl rfl)
theorem dX0_mean_15 : decode cX0_mean 15 = .ok (.iload_n 1, 1) := dk_27 (dk_at dksX0_mean_0 15 rfl rfl)
theorem dX0_mean_16 : decode cX0_mean 16 = .ok (.aaload, 1) := dk_50 (dk_at dksX0_mean_0 16 rfl rfl)
theorem dX0_mean_17 : decode cX0_mean 17 = .ok (.astore 4, 2) := dk_58 4 (dk_at dksX0_mean_0 17 rfl rfl)
theorem dX0_mean_19 : decode cX0_mean 19 = .ok (.aload 4, 2) := dk_25 4 (dk_at dksX0_mean_0 19 rfl rfl)
theorem dX0_mean_21 : decode cX0_mean 21 = .ok (.arraylength, 1) := dk_190 (dk_at dksX0_mean_0 21 rfl rfl)
theorem dX0_mean_22 : decode cX0_mean 22 = .ok (.istore 5, 2) := dk_54 5 (dk_at dksX0_mean_0 22 rfl rfl)
theorem dX0_mean_24 : decode cX0_mean 24 = .ok (.iconst 0, 1) := dk_3 (dk_at dksX0_mean_1 0 rfl rfl)
theorem dX0_mean_25 : decode cX0_mean 25 = .ok (.istore 6, 2) := dk_54 6 (dk_at dksX0_mean_1 1 rfl rfl)
theorem dX0_mean_27 : decode cX0_mean 27 = .ok (.iload 6, 2) := dk_21 6 (dk_at dksX0_mean_1 3 rfl rfl)
theorem dX0_mean_29 : decode cX0_mean 29 = .ok (.iload 5, 2) := dk_21 5 (dk_at dksX0_mean_1 5 rfl rfl)
theorem dX0_mean_31 : decode cX0_mean 31 = .ok (.if_icmp .ge 22, 3) := dk_162 0 22 (dk_at dksX0_mean_1 7 rfl rfl)
theorem dX0_mean_34 : decode cX0_mean 34 = .ok (.aload 4, 2) := dk_25 4 (dk_at dksX0_mean_1 10 rfl rfl)
theorem dX0_mean_36 : decode cX0_mean 36 = .ok (.iload 6, 2) := dk_21 6 (dk_at dksX0_mean_1 12 rfl rfl)
theorem dX0_mean_38 : decode cX0_mean 38 = .ok (.iaload, 1) := dk_46 (dk_at dksX0_mean_1 14 rfl rfl)
theorem dX0_mean_39 : decode cX0_mean 39 = .ok (.istore 7, 2) := dk_54 7 (dk_at dksX0_mean_1 15 rfl rfl)
theorem dX0_mean_41 : decode cX0_mean 41 = .ok (.lload_n 2, 1) := dk_32 (dk_at dksX0_mean_1 17 rfl rfl)
theorem dX0_mean_42 : decode cX0_mean 42 = .ok (.iload 7, 2) := dk_21 7 (dk_at dksX0_mean_1 18 rfl rfl)
theorem dX0_mean_44 : decode cX0_mean 44 = .ok (.i2l, 1) := dk_133 (dk_at dksX0_mean_1 20 rfl rfl)
theorem dX0_mean_45 : decode cX0_mean 45 = .ok (.ladd, 1) := dk_97 (dk_at dksX0_mean_1 21 rfl rfl)
theorem dX0_mean_46 : decode cX0_mean 46 = .ok (.lstore_n 2, 1) := dk_65 (dk_at dksX0_mean_1 22 rfl rfl)
theorem dX0_mean_47 : decode cX0_mean 47 = .ok (.iinc 6 1, 3) := dk_132 6 1 (dk_at dksX0_mean_2 0 rfl rfl)
theorem dX0_mean_50 : decode cX0_mean 50 = .ok (.goto (-23), 3) := dk_167 255 233 (dk_at dksX0_mean_2 3 rfl rfl)
theorem dX0_mean_53 : decode cX0_mean 53 = .ok (.aload_n 0, 1) := dk_42 (dk_at dksX0_mean_2 6 rfl rfl)
theorem dX0_mean_54 : decode cX0_mean 54 = .ok (.lload_n 2, 1) := dk_32 (dk_at dksX0_mean_2 7 rfl rfl)
theorem dX0_mean_55 : decode cX0_mean 55 = .ok (.aload_n 0, 1) := dk_42 (dk_at dksX0_mean_2 8 rfl rfl)
theorem dX0_mean_56 : decode cX0_mean 56 = .ok (.getfield 34, 3) := dk_180 0 34 (dk_at dksX0_mean_2 9 rfl rfl)
theorem dX0_mean_59 : decode cX0_mean 59 = .ok (.iload_n 1, 1) := dk_27 (dk_at dksX0_mean_2 12 rfl rfl)
theorem dX0_mean_60 : decode cX0_mean 60 = .ok (.aaload, 1) := dk_50 (dk_at dksX0_mean_2 13 rfl rfl)
theorem dX0_mean_61 : decode cX0_mean 61 = .ok (.arraylength, 1) := dk_190 (dk_at dksX0_mean_2 14 rfl rfl)
theorem dX0_mean_62 : decode cX0_mean 62 = .ok (.i2l, 1) := dk_133 (dk_at dksX0_mean_2 15 rfl rfl)
theorem dX0_mean_63 : decode cX0_mean 63 = .ok (.ldiv, 1) := dk_109 (dk_at dksX0_mean_2 16 rfl rfl)
theorem dX0_mean_64 : decode cX0_mean 64 = .ok (.l2i, 1) := dk_136 (dk_at dksX0_mean_2 17 rfl rfl)
theorem dX0_mean_65 : decode cX0_mean 65 = .ok (.iconst 1, 1) := dk_4 (dk_at dksX0_mean_2 18 rfl rfl)
theorem dX0_mean_66 : decode cX0_mean 66 = .ok (.invokevirtual 111, 3) := dk_182 0 111 (dk_at dksX0_mean_2 19 rfl rfl)
theorem dX0_mean_69 : decode cX0_mean 69 = .ok (.ireturn, 1) := dk_172 (dk_at dksX0_mean_2 22 rfl rfl)
theorem dX0_mean_70 : decode cX0_mean 70 = .ok (.astore_n 2, 1) := dk_77 (dk_at dksX0_mean_2 23 rfl rfl)
theorem dX0_mean_71 : decode cX0_mean 71 = .ok (.aload_n 0, 1) := dk_42 (dk_at dksX0_mean_3 0 rfl rfl)
theorem dX0_mean_72 : decode cX0_mean 72 = .ok (.iconst 1, 1) := dk_4 (dk_at dksX0_mean_3 1 rfl rfl)
theorem dX0_mean_73 : decode cX0_mean 73 = .ok (.invokevirtual 103, 3) := dk_182 0 103 (dk_at dksX0_mean_3 2 rfl rfl)
theorem dX0_mean_76 : decode cX0_mean 76 = .ok (.ireturn, 1) := dk_172 (dk_at dksX0_mean_3 5 rfl rfl)
theorem dX0_mean_77 : decode cX0_mean 77 = .ok (.astore_n 2, 1) := dk_77 (dk_at dksX0_mean_3 6 rfl rfl)
theorem dX0_mean_78 : decode cX0_mean 78 = .ok (.aload_n 0, 1) := dk_42 (dk_at dksX0_mean_3 7 rfl rfl)
theorem dX0_mean_79 : decode cX0_mean 79 = .ok (.iconst 4, 1) := dk_7 (dk_at dksX0_mean_3 8 rfl rfl)
theorem dX0_mean_80 : decode cX0_mean 80 = .ok (.invokevirtual 103, 3) := dk_182 0 103 (dk_at dksX0_mean_3 9 rfl rfl)
theorem dX0_mean_83 : decode cX0_mean 83 = .ok (.ireturn, 1) := dk_172 (dk_at dksX0_mean_3 12 rfl rfl)
abbrev cX0_text : ByteArray := prog_1_method_15_code
def yX0_text : MethodName := ⟨RX0, "text", "(II)I"⟩
def dkwX0_text_2 : List UInt8 := [172, 78, 42, 8, 182, 0, 103, 172]
abbrev dktX0_text_2 : List UInt8 := dkwX0_text_2 ++ []
def dkwX0_text_1 : List UInt8 := [28, 162, 0, 15, 45, 21, 4, 16, 32, 84, 132, 4, 1, 167, 255, 241, 42, 180, 0, 40, 27, 45, 83, 28]
abbrev dktX0_text_1 : List UInt8 := dkwX0_text_1 ++ dktX0_text_2
def dkwX0_text_0 : List UInt8 := [27, 184, 0, 128, 153, 0, 9, 28, 16, 60, 164, 0, 5, 2, 172, 28, 188, 8, 78, 3, 54, 4, 21, 4]
abbrev dktX0_text_0 : List UInt8 := dkwX0_text_0 ++ dktX0_text_1
theorem dksX0_text_0 : cX0_text.data.toList.drop 0 = dktX0_text_0 := by decide +kernel
theorem dksX0_text_1 : cX0_text.data.toList.drop 24 = dktX0_text_1 := dk_seg dksX0_text_0 24 rfl rfl
theorem dksX0_text_2 : cX0_text.data.toList.drop 48 = dktX0_text_2 := dk_seg dksX0_text_1 24 rfl rfl
theorem dX0_text_0 : decode cX0_text 0 = .ok (.iload_n 1, 1) := dk_27 (dk_at dksX0_text_0 0 rfl rfl)
theorem dX0_text_1 : decode cX0_text 1 = .ok (.invokestatic 128, 3) := dk_184 0 128 (dk_at dksX0_text_0 1 rfl rfl)
theorem dX0_text_4 : decode cX0_text 4 = .ok (.ifCond .eq 9, 3) := dk_153 0 9 (dk_at dksX0_text_0 4 rfl rfl)
theorem dX0_text_7 : decode cX0_text 7 = .ok (.iload_n 2, 1) := dk_28 (dk_at dksX0_text_0 7 rfl rfl)
theorem dX0_text_8 : decode cX0_text 8 = .ok (.bipush 60, 2) := dk_16 60 (dk_at dksX0_text_0 8 rfl rfl)
theorem dX0_text_10 : decode cX0_text 10 = .ok (.if_icmp .le 5, 3) := dk_164 0 5 (dk_at dksX0_text_0 10 rfl rfl)
theorem dX0_text_13 : decode cX0_text 13 = .ok (.iconst (-1), 1) := dk_2 (dk_at dksX0_text_0 13 rfl rfl)
theorem dX0_text_14 : decode cX0_text 14 = .ok (.ireturn, 1) := dk_172 (dk_at dksX0_text_0 14 rfl rfl)
theorem dX0_text_15 : decode cX0_text 15 = .ok (.iload_n 2, 1) := dk_28 (dk_at dksX0_text_0 15 rfl rfl)
theorem dX0_text_16 : decode cX0_text 16 = .ok (.newarray .byte, 2) := dk_188_8 (dk_at dksX0_text_0 16 rfl rfl)
theorem dX0_text_18 : decode cX0_text 18 = .ok (.astore_n 3, 1) := dk_78 (dk_at dksX0_text_0 18 rfl rfl)
theorem dX0_text_19 : decode cX0_text 19 = .ok (.iconst 0, 1) := dk_3 (dk_at dksX0_text_0 19 rfl rfl)
theorem dX0_text_20 : decode cX0_text 20 = .ok (.istore 4, 2) := dk_54 4 (dk_at dksX0_text_0 20 rfl rfl)
theorem dX0_text_22 : decode cX0_text 22 = .ok (.iload 4, 2) := dk_21 4 (dk_at dksX0_text_0 22 rfl rfl)
theorem dX0_text_24 : decode cX0_text 24 = .ok (.iload_n 2, 1) := dk_28 (dk_at dksX0_text_1 0 rfl rfl)
theorem dX0_text_25 : decode cX0_text 25 = .ok (.if_icmp .ge 15, 3) := dk_162 0 15 (dk_at dksX0_text_1 1 rfl rfl)
theorem dX0_text_28 : decode cX0_text 28 = .ok (.aload_n 3, 1) := dk_45 (dk_at dksX0_text_1 4 rfl rfl)
theorem dX0_text_29 : decode cX0_text 29 = .ok (.iload 4, 2) := dk_21 4 (dk_at dksX0_text_1 5 rfl rfl)
theorem dX0_text_31 : decode cX0_text 31 = .ok (.bipush 32, 2) := dk_16 32 (dk_at dksX0_text_1 7 rfl rfl)
theorem dX0_text_33 : decode cX0_text 33 = .ok (.bastore, 1) := dk_84 (dk_at dksX0_text_1 9 rfl rfl)
theorem dX0_text_34 : decode cX0_text 34 = .ok (.iinc 4 1, 3) := dk_132 4 1 (dk_at dksX0_text_1 10 rfl rfl)
theorem dX0_text_37 : decode cX0_text 37 = .ok (.goto (-15), 3) := dk_167 255 241 (dk_at dksX0_text_1 13 rfl rfl)
theorem dX0_text_40 : decode cX0_text 40 = .ok (.aload_n 0, 1) := dk_42 (dk_at dksX0_text_1 16 rfl rfl)
theorem dX0_text_41 : decode cX0_text 41 = .ok (.getfield 40, 3) := dk_180 0 40 (dk_at dksX0_text_1 17 rfl rfl)
theorem dX0_text_44 : decode cX0_text 44 = .ok (.iload_n 1, 1) := dk_27 (dk_at dksX0_text_1 20 rfl rfl)
theorem dX0_text_45 : decode cX0_text 45 = .ok (.aload_n 3, 1) := dk_45 (dk_at dksX0_text_1 21 rfl rfl)
theorem dX0_text_46 : decode cX0_text 46 = .ok (.aastore, 1) := dk_83 (dk_at dksX0_text_1 22 rfl rfl)
theorem dX0_text_47 : decode cX0_text 47 = .ok (.iload_n 2, 1) := dk_28 (dk_at dksX0_text_1 23 rfl rfl)
theorem dX0_text_48 : decode cX0_text 48 = .ok (.ireturn, 1) := dk_172 (dk_at dksX0_text_2 0 rfl rfl)
theorem dX0_text_49 : decode cX0_text 49 = .ok (.astore_n 3, 1) := dk_78 (dk_at dksX0_text_2 1 rfl rfl)
theorem dX0_text_50 : decode cX0_text 50 = .ok (.aload_n 0, 1) := dk_42 (dk_at dksX0_text_2 2 rfl rfl)
theorem dX0_text_51 : decode cX0_text 51 = .ok (.iconst 5, 1) := dk_8 (dk_at dksX0_text_2 3 rfl rfl)
theorem dX0_text_52 : decode cX0_text 52 = .ok (.invokevirtual 103, 3) := dk_182 0 103 (dk_at dksX0_text_2 4 rfl rfl)
theorem dX0_text_55 : decode cX0_text 55 = .ok (.ireturn, 1) := dk_172 (dk_at dksX0_text_2 7 rfl rfl)
abbrev cX0_isText : ByteArray := prog_1_method_8_code
def yX0_isText : MethodName := ⟨RX0, "isText", "(I)Z"⟩
def dkwX0_isText_0 : List UInt8 := [26, 3, 6, 184, 0, 93, 172]
abbrev dktX0_isText_0 : List UInt8 := dkwX0_isText_0 ++ []
theorem dksX0_isText_0 : cX0_isText.data.toList.drop 0 = dktX0_isText_0 := by decide +kernel
theorem dX0_isText_0 : decode cX0_isText 0 = .ok (.iload_n 0, 1) := dk_26 (dk_at dksX0_isText_0 0 rfl rfl)
theorem dX0_isText_1 : decode cX0_isText 1 = .ok (.iconst 0, 1) := dk_3 (dk_at dksX0_isText_0 1 rfl rfl)
theorem dX0_isText_2 : decode cX0_isText 2 = .ok (.iconst 3, 1) := dk_6 (dk_at dksX0_isText_0 2 rfl rfl)
theorem dX0_isText_3 : decode cX0_isText 3 = .ok (.invokestatic 93, 3) := dk_184 0 93 (dk_at dksX0_isText_0 3 rfl rfl)
theorem dX0_isText_6 : decode cX0_isText 6 = .ok (.ireturn, 1) := dk_172 (dk_at dksX0_isText_0 6 rfl rfl)
abbrev cX0_put : ByteArray := prog_1_method_16_code
def yX0_put : MethodName := ⟨RX0, "put", "(III)I"⟩
def dkwX0_put_2 : List UInt8 := [182, 0, 103, 172]
abbrev dktX0_put_2 : List UInt8 := dkwX0_put_2 ++ []
def dkwX0_put_1 : List UInt8 := [50, 28, 29, 145, 84, 21, 4, 17, 3, 232, 96, 172, 58, 4, 42, 4, 182, 0, 103, 172, 58, 4, 42, 5]
abbrev dktX0_put_1 : List UInt8 := dkwX0_put_1 ++ dktX0_put_2
def dkwX0_put_0 : List UInt8 := [27, 184, 0, 128, 154, 0, 5, 2, 172, 42, 180, 0, 40, 27, 50, 28, 51, 54, 4, 42, 180, 0, 40, 27]
abbrev dktX0_put_0 : List UInt8 := dkwX0_put_0 ++ dktX0_put_1
theorem dksX0_put_0 : cX0_put.data.toList.drop 0 = dktX0_put_0 := by decide +kernel
theorem dksX0_put_1 : cX0_put.data.toList.drop 24 = dktX0_put_1 := dk_seg dksX0_put_0 24 rfl rfl
theorem dksX0_put_2 : cX0_put.data.toList.drop 48 = dktX0_put_2 := dk_seg dksX0_put_1 24 rfl rfl
theorem dX0_put_0 : decode cX0_put 0 = .ok (.iload_n 1, 1) := dk_27 (dk_at dksX0_put_0 0 rfl rfl)
theorem dX0_put_1 : decode cX0_put 1 = .ok (.invokestatic 128, 3) := dk_184 0 128 (dk_at dksX0_put_0 1 rfl rfl)
theorem dX0_put_4 : decode cX0_put 4 = .ok (.ifCond .ne 5, 3) := dk_154 0 5 (dk_at dksX0_put_0 4 rfl rfl)
theorem dX0_put_7 : decode cX0_put 7 = .ok (.iconst (-1), 1) := dk_2 (dk_at dksX0_put_0 7 rfl rfl)
theorem dX0_put_8 : decode cX0_put 8 = .ok (.ireturn, 1) := dk_172 (dk_at dksX0_put_0 8 rfl rfl)
theorem dX0_put_9 : decode cX0_put 9 = .ok (.aload_n 0, 1) := dk_42 (dk_at dksX0_put_0 9 rfl rfl)
theorem dX0_put_10 : decode cX0_put 10 = .ok (.getfield 40, 3) := dk_180 0 40 (dk_at dksX0_put_0 10 rfl rfl)
theorem dX0_put_13 : decode cX0_put 13 = .ok (.iload_n 1, 1) := dk_27 (dk_at dksX0_put_0 13 rfl rfl)
theorem dX0_put_14 : decode cX0_put 14 = .ok (.aaload, 1) := dk_50 (dk_at dksX0_put_0 14 rfl rfl)
theorem dX0_put_15 : decode cX0_put 15 = .ok (.iload_n 2, 1) := dk_28 (dk_at dksX0_put_0 15 rfl rfl)
theorem dX0_put_16 : decode cX0_put 16 = .ok (.baload, 1) := dk_51 (dk_at dksX0_put_0 16 rfl rfl)
theorem dX0_put_17 : decode cX0_put 17 = .ok (.istore 4, 2) := dk_54 4 (dk_at dksX0_put_0 17 rfl rfl)
theorem dX0_put_19 : decode cX0_put 19 = .ok (.aload_n 0, 1) := dk_42 (dk_at dksX0_put_0 19 rfl rfl)
theorem dX0_put_20 : decode cX0_put 20 = .ok (.getfield 40, 3) := dk_180 0 40 (dk_at dksX0_put_0 20 rfl rfl)
theorem dX0_put_23 : decode cX0_put 23 = .ok (.iload_n 1, 1) := dk_27 (dk_at dksX0_put_0 23 rfl rfl)
theorem dX0_put_24 : decode cX0_put 24 = .ok (.aaload, 1) := dk_50 (dk_at dksX0_put_1 0 rfl rfl)
theorem dX0_put_25 : decode cX0_put 25 = .ok (.iload_n 2, 1) := dk_28 (dk_at dksX0_put_1 1 rfl rfl)
theorem dX0_put_26 : decode cX0_put 26 = .ok (.iload_n 3, 1) := dk_29 (dk_at dksX0_put_1 2 rfl rfl)
theorem dX0_put_27 : decode cX0_put 27 = .ok (.i2b, 1) := dk_145 (dk_at dksX0_put_1 3 rfl rfl)
theorem dX0_put_28 : decode cX0_put 28 = .ok (.bastore, 1) := dk_84 (dk_at dksX0_put_1 4 rfl rfl)
theorem dX0_put_29 : decode cX0_put 29 = .ok (.iload 4, 2) := dk_21 4 (dk_at dksX0_put_1 5 rfl rfl)
theorem dX0_put_31 : decode cX0_put 31 = .ok (.sipush 1000, 3) := dk_17 3 232 (dk_at dksX0_put_1 7 rfl rfl)
theorem dX0_put_34 : decode cX0_put 34 = .ok (.iadd, 1) := dk_96 (dk_at dksX0_put_1 10 rfl rfl)
theorem dX0_put_35 : decode cX0_put 35 = .ok (.ireturn, 1) := dk_172 (dk_at dksX0_put_1 11 rfl rfl)
theorem dX0_put_36 : decode cX0_put 36 = .ok (.astore 4, 2) := dk_58 4 (dk_at dksX0_put_1 12 rfl rfl)
theorem dX0_put_38 : decode cX0_put 38 = .ok (.aload_n 0, 1) := dk_42 (dk_at dksX0_put_1 14 rfl rfl)
theorem dX0_put_39 : decode cX0_put 39 = .ok (.iconst 1, 1) := dk_4 (dk_at dksX0_put_1 15 rfl rfl)
theorem dX0_put_40 : decode cX0_put 40 = .ok (.invokevirtual 103, 3) := dk_182 0 103 (dk_at dksX0_put_1 16 rfl rfl)
theorem dX0_put_43 : decode cX0_put 43 = .ok (.ireturn, 1) := dk_172 (dk_at dksX0_put_1 19 rfl rfl)
theorem dX0_put_44 : decode cX0_put 44 = .ok (.astore 4, 2) := dk_58 4 (dk_at dksX0_put_1 20 rfl rfl)
theorem dX0_put_46 : decode cX0_put 46 = .ok (.aload_n 0, 1) := dk_42 (dk_at dksX0_put_1 22 rfl rfl)
theorem dX0_put_47 : decode cX0_put 47 = .ok (.iconst 2, 1) := dk_5 (dk_at dksX0_put_1 23 rfl rfl)
theorem dX0_put_48 : decode cX0_put 48 = .ok (.invokevirtual 103, 3) := dk_182 0 103 (dk_at dksX0_put_2 0 rfl rfl)
theorem dX0_put_51 : decode cX0_put 51 = .ok (.ireturn, 1) := dk_172 (dk_at dksX0_put_2 3 rfl rfl)
abbrev cX0_letters : ByteArray := prog_1_method_22_code
def yX0_letters : MethodName := ⟨RX0, "letters", "(I)I"⟩
def dkwX0_letters_3 : List UInt8 := [132, 6, 1, 167, 255, 222, 132, 4, 1, 167, 255, 201, 42, 180, 0, 30, 61, 42, 27, 181, 0, 30, 28, 172]
abbrev dktX0_letters_3 : List UInt8 := dkwX0_letters_3 ++ []
def dkwX0_letters_2 : List UInt8 := [180, 0, 134, 190, 162, 0, 24, 25, 5, 180, 0, 134, 21, 6, 51, 27, 161, 0, 6, 16, 252, 172]
abbrev dktX0_letters_2 : List UInt8 := dkwX0_letters_2 ++ dktX0_letters_3
def dkwX0_letters_1 : List UInt8 := [21, 4, 29, 162, 0, 55, 44, 21, 4, 50, 58, 5, 3, 54, 6, 25, 5, 198, 0, 35, 21, 6, 25, 5]
abbrev dktX0_letters_1 : List UInt8 := dkwX0_letters_1 ++ dktX0_letters_2
def dkwX0_letters_0 : List UInt8 := [27, 4, 16, 6, 184, 0, 93, 154, 0, 5, 2, 172, 42, 180, 0, 46, 77, 44, 190, 62, 3, 54, 4]
abbrev dktX0_letters_0 : List UInt8 := dkwX0_letters_0 ++ dktX0_letters_1
theorem dksX0_letters_0 : cX0_letters.data.toList.drop 0 = dktX0_letters_0 := by decide +kernel
theorem dksX0_letters_1 : cX0_letters.data.toList.drop 23 = dktX0_letters_1 := dk_seg dksX0_letters_0 23 rfl rfl
theorem dksX0_letters_2 : cX0_letters.data.toList.drop 47 = dktX0_letters_2 := dk_seg dksX0_letters_1 24 rfl rfl
theorem dksX0_letters_3 : cX0_letters.data.toList.drop 69 = dktX0_letters_3 := dk_seg dksX0_letters_2 22 rfl rfl
theorem dX0_letters_0 : decode cX0_letters 0 = .ok (.iload_n 1, 1) := dk_27 (dk_at dksX0_letters_0 0 rfl rfl)
theorem dX0_letters_1 : decode cX0_letters 1 = .ok (.iconst 1, 1) := dk_4 (dk_at dksX0_letters_0 1 rfl rfl)
theorem dX0_letters_2 : decode cX0_letters 2 = .ok (.bipush 6, 2) := dk_16 6 (dk_at dksX0_letters_0 2 rfl rfl)
theorem dX0_letters_4 : decode cX0_letters 4 = .ok (.invokestatic 93, 3) := dk_184 0 93 (dk_at dksX0_letters_0 4 rfl rfl)
theorem dX0_letters_7 : decode cX0_letters 7 = .ok (.ifCond .ne 5, 3) := dk_154 0 5 (dk_at dksX0_letters_0 7 rfl rfl)
theorem dX0_letters_10 : decode cX0_letters 10 = .ok (.iconst (-1), 1) := dk_2 (dk_at dksX0_letters_0 10 rfl rfl)
theorem dX0_letters_11 : decode cX0_letters 11 = .ok (.ireturn, 1) := dk_172 (dk_at dksX0_letters_0 11 rfl rfl)
theorem dX0_letters_12 : decode cX0_letters 12 = .ok (.aload_n 0, 1) := dk_42 (dk_at dksX0_letters_0 12 rfl rfl)
theorem dX0_letters_13 : decode cX0_letters 13 = .ok (.getfield 46, 3) := dk_180 0 46 (dk_at dksX0_letters_0 13 rfl rfl)
theorem dX0_letters_16 : decode cX0_letters 16 = .ok (.astore_n 2, 1) := dk_77 (dk_at dksX0_letters_0 16 rfl rfl)
theorem dX0_letters_17 : decode cX0_letters 17 = .ok (.aload_n 2, 1) := dk_44 (dk_at dksX0_letters_0 17 rfl rfl)
theorem dX0_letters_18 : decode cX0_letters 18 = .ok (.arraylength, 1) := dk_190 (dk_at dksX0_letters_0 18 rfl rfl)
theorem dX0_letters_19 : decode cX0_letters 19 = .ok (.istore_n 3, 1) := dk_62 (dk_at dksX0_letters_0 19 rfl rfl)
theorem dX0_letters_20 : decode cX0_letters 20 = .ok (.iconst 0, 1) := dk_3 (dk_at dksX0_letters_0 20 rfl rfl)
theorem dX0_letters_21 : decode cX0_letters 21 = .ok (.istore 4, 2) := dk_54 4 (dk_at dksX0_letters_0 21 rfl rfl)
theorem dX0_letters_23 : decode cX0_letters 23 = .ok (.iload 4, 2) := dk_21 4 (dk_at dksX0_letters_1 0 rfl rfl)
theorem dX0_letters_25 : decode cX0_letters 25 = .ok (.iload_n 3, 1) := dk_29 (dk_at dksX0_letters_1 2 rfl rfl)
theorem dX0_letters_26 : decode cX0_letters 26 = .ok (.if_icmp .ge 55, 3) := dk_162 0 55 (dk_at dksX0_letters_1 3 rfl rfl)
theorem dX0_letters_29 : decode cX0_letters 29 = .ok (.aload_n 2, 1) := dk_44 (dk_at dksX0_letters_1 6 rfl rfl)
theorem dX0_letters_30 : decode cX0_letters 30 = .ok (.iload 4, 2) := dk_21 4 (dk_at dksX0_letters_1 7 rfl rfl)
theorem dX0_letters_32 : decode cX0_letters 32 = .ok (.aaload, 1) := dk_50 (dk_at dksX0_letters_1 9 rfl rfl)
theorem dX0_letters_33 : decode cX0_letters 33 = .ok (.astore 5, 2) := dk_58 5 (dk_at dksX0_letters_1 10 rfl rfl)
theorem dX0_letters_35 : decode cX0_letters 35 = .ok (.iconst 0, 1) := dk_3 (dk_at dksX0_letters_1 12 rfl rfl)
theorem dX0_letters_36 : decode cX0_letters 36 = .ok (.istore 6, 2) := dk_54 6 (dk_at dksX0_letters_1 13 rfl rfl)
theorem dX0_letters_38 : decode cX0_letters 38 = .ok (.aload 5, 2) := dk_25 5 (dk_at dksX0_letters_1 15 rfl rfl)
theorem dX0_letters_40 : decode cX0_letters 40 = .ok (.ifnull 35, 3) := dk_198 0 35 (dk_at dksX0_letters_1 17 rfl rfl)
theorem dX0_letters_43 : decode cX0_letters 43 = .ok (.iload 6, 2) := dk_21 6 (dk_at dksX0_letters_1 20 rfl rfl)
theorem dX0_letters_45 : decode cX0_letters 45 = .ok (.aload 5, 2) := dk_25 5 (dk_at dksX0_letters_1 22 rfl rfl)
theorem dX0_letters_47 : decode cX0_letters 47 = .ok (.getfield 134, 3) := dk_180 0 134 (dk_at dksX0_letters_2 0 rfl rfl)
theorem dX0_letters_50 : decode cX0_letters 50 = .ok (.arraylength, 1) := dk_190 (dk_at dksX0_letters_2 3 rfl rfl)
theorem dX0_letters_51 : decode cX0_letters 51 = .ok (.if_icmp .ge 24, 3) := dk_162 0 24 (dk_at dksX0_letters_2 4 rfl rfl)
theorem dX0_letters_54 : decode cX0_letters 54 = .ok (.aload 5, 2) := dk_25 5 (dk_at dksX0_letters_2 7 rfl rfl)
theorem dX0_letters_56 : decode cX0_letters 56 = .ok (.getfield 134, 3) := dk_180 0 134 (dk_at dksX0_letters_2 9 rfl rfl)
theorem dX0_letters_59 : decode cX0_letters 59 = .ok (.iload 6, 2) := dk_21 6 (dk_at dksX0_letters_2 12 rfl rfl)
theorem dX0_letters_61 : decode cX0_letters 61 = .ok (.baload, 1) := dk_51 (dk_at dksX0_letters_2 14 rfl rfl)
theorem dX0_letters_62 : decode cX0_letters 62 = .ok (.iload_n 1, 1) := dk_27 (dk_at dksX0_letters_2 15 rfl rfl)
theorem dX0_letters_63 : decode cX0_letters 63 = .ok (.if_icmp .lt 6, 3) := dk_161 0 6 (dk_at dksX0_letters_2 16 rfl rfl)
theorem dX0_letters_66 : decode cX0_letters 66 = .ok (.bipush (-4), 2) := dk_16 252 (dk_at dksX0_letters_2 19 rfl rfl)
theorem dX0_letters_68 : decode cX0_letters 68 = .ok (.ireturn, 1) := dk_172 (dk_at dksX0_letters_2 21 rfl rfl)
theorem dX0_letters_69 : decode cX0_letters 69 = .ok (.iinc 6 1, 3) := dk_132 6 1 (dk_at dksX0_letters_3 0 rfl rfl)
theorem dX0_letters_72 : decode cX0_letters 72 = .ok (.goto (-34), 3) := dk_167 255 222 (dk_at dksX0_letters_3 3 rfl rfl)
theorem dX0_letters_75 : decode cX0_letters 75 = .ok (.iinc 4 1, 3) := dk_132 4 1 (dk_at dksX0_letters_3 6 rfl rfl)
theorem dX0_letters_78 : decode cX0_letters 78 = .ok (.goto (-55), 3) := dk_167 255 201 (dk_at dksX0_letters_3 9 rfl rfl)
theorem dX0_letters_81 : decode cX0_letters 81 = .ok (.aload_n 0, 1) := dk_42 (dk_at dksX0_letters_3 12 rfl rfl)
theorem dX0_letters_82 : decode cX0_letters 82 = .ok (.getfield 30, 3) := dk_180 0 30 (dk_at dksX0_letters_3 13 rfl rfl)
theorem dX0_letters_85 : decode cX0_letters 85 = .ok (.istore_n 2, 1) := dk_61 (dk_at dksX0_letters_3 16 rfl rfl)
theorem dX0_letters_86 : decode cX0_letters 86 = .ok (.aload_n 0, 1) := dk_42 (dk_at dksX0_letters_3 17 rfl rfl)
theorem dX0_letters_87 : decode cX0_letters 87 = .ok (.iload_n 1, 1) := dk_27 (dk_at dksX0_letters_3 18 rfl rfl)
theorem dX0_letters_88 : decode cX0_letters 88 = .ok (.putfield 30, 3) := dk_181 0 30 (dk_at dksX0_letters_3 19 rfl rfl)
theorem dX0_letters_91 : decode cX0_letters 91 = .ok (.iload_n 2, 1) := dk_28 (dk_at dksX0_letters_3 22 rfl rfl)
theorem dX0_letters_92 : decode cX0_letters 92 = .ok (.ireturn, 1) := dk_172 (dk_at dksX0_letters_3 23 rfl rfl)
abbrev cX0_word : ByteArray := prog_1_method_23_code
def yX0_word : MethodName := ⟨RX0, "word", "(II)I"⟩
def dkwX0_word_4 : List UInt8 := [183, 0, 137, 83, 45, 190, 172, 78, 42, 4, 182, 0, 103, 172]
abbrev dktX0_word_4 : List UInt8 := dkwX0_word_4 ++ []
def dkwX0_word_3 : List UInt8 := [28, 50, 21, 4, 46, 145, 84, 132, 4, 1, 167, 255, 204, 42, 180, 0, 46, 27, 187, 0, 44, 89, 45]
abbrev dktX0_word_3 : List UInt8 := dkwX0_word_3 ++ dktX0_word_4
def dkwX0_word_2 : List UInt8 := [180, 0, 30, 4, 100, 184, 0, 93, 154, 0, 9, 42, 6, 182, 0, 103, 172, 45, 21, 4, 42, 180, 0, 34]
abbrev dktX0_word_2 : List UInt8 := dkwX0_word_2 ++ dktX0_word_3
def dkwX0_word_1 : List UInt8 := [188, 8, 78, 3, 54, 4, 21, 4, 45, 190, 162, 0, 51, 42, 180, 0, 34, 28, 50, 21, 4, 46, 3, 42]
abbrev dktX0_word_1 : List UInt8 := dkwX0_word_1 ++ dktX0_word_2
def dkwX0_word_0 : List UInt8 := [27, 184, 0, 131, 153, 0, 10, 28, 184, 0, 97, 154, 0, 5, 2, 172, 42, 180, 0, 34, 28, 50, 190]
abbrev dktX0_word_0 : List UInt8 := dkwX0_word_0 ++ dktX0_word_1
theorem dksX0_word_0 : cX0_word.data.toList.drop 0 = dktX0_word_0 := by decide +kernel
theorem dksX0_word_1 : cX0_word.data.toList.drop 23 = dktX0_word_1 := dk_seg dksX0_word_0 23 rfl rfl
theorem dksX0_word_2 : cX0_word.data.toList.drop 47 = dktX0_word_2 := dk_seg dksX0_word_1 24 rfl rfl
theorem dksX0_word_3 : cX0_word.data.toList.drop 71 = dktX0_word_3 := dk_seg dksX0_word_2 24 rfl rfl
theorem dksX0_word_4 : cX0_word.data.toList.drop 94 = dktX0_word_4 := dk_seg dksX0_word_3 23 rfl rfl
theorem dX0_word_0 : decode cX0_word 0 = .ok (.iload_n 1, 1) := dk_27 (dk_at dksX0_word_0 0 rfl rfl)
theorem dX0_word_1 : decode cX0_word 1 = .ok (.invokestatic 131, 3) := dk_184 0 131 (dk_at dksX0_word_0 1 rfl rfl)
theorem dX0_word_4 : decode cX0_word 4 = .ok (.ifCond .eq 10, 3) := dk_153 0 10 (dk_at dksX0_word_0 4 rfl rfl)
theorem dX0_word_7 : decode cX0_word 7 = .ok (.iload_n 2, 1) := dk_28 (dk_at dksX0_word_0 7 rfl rfl)
theorem dX0_word_8 : decode cX0_word 8 = .ok (.invokestatic 97, 3) := dk_184 0 97 (dk_at dksX0_word_0 8 rfl rfl)
theorem dX0_word_11 : decode cX0_word 11 = .ok (.ifCond .ne 5, 3) := dk_154 0 5 (dk_at dksX0_word_0 11 rfl rfl)
theorem dX0_word_14 : decode cX0_word 14 = .ok (.iconst (-1), 1) := dk_2 (dk_at dksX0_word_0 14 rfl rfl)
theorem dX0_word_15 : decode cX0_word 15 = .ok (.ireturn, 1) := dk_172 (dk_at dksX0_word_0 15 rfl rfl)
theorem dX0_word_16 : decode cX0_word 16 = .ok (.aload_n 0, 1) := dk_42 (dk_at dksX0_word_0 16 rfl rfl)
theorem dX0_word_17 : decode cX0_word 17 = .ok (.getfield 34, 3) := dk_180 0 34 (dk_at dksX0_word_0 17 rfl rfl)
theorem dX0_word_20 : decode cX0_word 20 = .ok (.iload_n 2, 1) := dk_28 (dk_at dksX0_word_0 20 rfl rfl)
theorem dX0_word_21 : decode cX0_word 21 = .ok (.aaload, 1) := dk_50 (dk_at dksX0_word_0 21 rfl rfl)
theorem dX0_word_22 : decode cX0_word 22 = .ok (.arraylength, 1) := dk_190 (dk_at dksX0_word_0 22 rfl rfl)
theorem dX0_word_23 : decode cX0_word 23 = .ok (.newarray .byte, 2) := dk_188_8 (dk_at dksX0_word_1 0 rfl rfl)
theorem dX0_word_25 : decode cX0_word 25 = .ok (.astore_n 3, 1) := dk_78 (dk_at dksX0_word_1 2 rfl rfl)
theorem dX0_word_26 : decode cX0_word 26 = .ok (.iconst 0, 1) := dk_3 (dk_at dksX0_word_1 3 rfl rfl)
theorem dX0_word_27 : decode cX0_word 27 = .ok (.istore 4, 2) := dk_54 4 (dk_at dksX0_word_1 4 rfl rfl)
theorem dX0_word_29 : decode cX0_word 29 = .ok (.iload 4, 2) := dk_21 4 (dk_at dksX0_word_1 6 rfl rfl)
theorem dX0_word_31 : decode cX0_word 31 = .ok (.aload_n 3, 1) := dk_45 (dk_at dksX0_word_1 8 rfl rfl)
theorem dX0_word_32 : decode cX0_word 32 = .ok (.arraylength, 1) := dk_190 (dk_at dksX0_word_1 9 rfl rfl)
theorem dX0_word_33 : decode cX0_word 33 = .ok (.if_icmp .ge 51, 3) := dk_162 0 51 (dk_at dksX0_word_1 10 rfl rfl)
theorem dX0_word_36 : decode cX0_word 36 = .ok (.aload_n 0, 1) := dk_42 (dk_at dksX0_word_1 13 rfl rfl)
theorem dX0_word_37 : decode cX0_word 37 = .ok (.getfield 34, 3) := dk_180 0 34 (dk_at dksX0_word_1 14 rfl rfl)
theorem dX0_word_40 : decode cX0_word 40 = .ok (.iload_n 2, 1) := dk_28 (dk_at dksX0_word_1 17 rfl rfl)
theorem dX0_word_41 : decode cX0_word 41 = .ok (.aaload, 1) := dk_50 (dk_at dksX0_word_1 18 rfl rfl)
theorem dX0_word_42 : decode cX0_word 42 = .ok (.iload 4, 2) := dk_21 4 (dk_at dksX0_word_1 19 rfl rfl)
theorem dX0_word_44 : decode cX0_word 44 = .ok (.iaload, 1) := dk_46 (dk_at dksX0_word_1 21 rfl rfl)
theorem dX0_word_45 : decode cX0_word 45 = .ok (.iconst 0, 1) := dk_3 (dk_at dksX0_word_1 22 rfl rfl)
theorem dX0_word_46 : decode cX0_word 46 = .ok (.aload_n 0, 1) := dk_42 (dk_at dksX0_word_1 23 rfl rfl)
theorem dX0_word_47 : decode cX0_word 47 = .ok (.getfield 30, 3) := dk_180 0 30 (dk_at dksX0_word_2 0 rfl rfl)
theorem dX0_word_50 : decode cX0_word 50 = .ok (.iconst 1, 1) := dk_4 (dk_at dksX0_word_2 3 rfl rfl)
theorem dX0_word_51 : decode cX0_word 51 = .ok (.isub, 1) := dk_100 (dk_at dksX0_word_2 4 rfl rfl)
theorem dX0_word_52 : decode cX0_word 52 = .ok (.invokestatic 93, 3) := dk_184 0 93 (dk_at dksX0_word_2 5 rfl rfl)
theorem dX0_word_55 : decode cX0_word 55 = .ok (.ifCond .ne 9, 3) := dk_154 0 9 (dk_at dksX0_word_2 8 rfl rfl)
theorem dX0_word_58 : decode cX0_word 58 = .ok (.aload_n 0, 1) := dk_42 (dk_at dksX0_word_2 11 rfl rfl)
theorem dX0_word_59 : decode cX0_word 59 = .ok (.iconst 3, 1) := dk_6 (dk_at dksX0_word_2 12 rfl rfl)
theorem dX0_word_60 : decode cX0_word 60 = .ok (.invokevirtual 103, 3) := dk_182 0 103 (dk_at dksX0_word_2 13 rfl rfl)
theorem dX0_word_63 : decode cX0_word 63 = .ok (.ireturn, 1) := dk_172 (dk_at dksX0_word_2 16 rfl rfl)
theorem dX0_word_64 : decode cX0_word 64 = .ok (.aload_n 3, 1) := dk_45 (dk_at dksX0_word_2 17 rfl rfl)
theorem dX0_word_65 : decode cX0_word 65 = .ok (.iload 4, 2) := dk_21 4 (dk_at dksX0_word_2 18 rfl rfl)
theorem dX0_word_67 : decode cX0_word 67 = .ok (.aload_n 0, 1) := dk_42 (dk_at dksX0_word_2 20 rfl rfl)
theorem dX0_word_68 : decode cX0_word 68 = .ok (.getfield 34, 3) := dk_180 0 34 (dk_at dksX0_word_2 21 rfl rfl)
theorem dX0_word_71 : decode cX0_word 71 = .ok (.iload_n 2, 1) := dk_28 (dk_at dksX0_word_3 0 rfl rfl)
theorem dX0_word_72 : decode cX0_word 72 = .ok (.aaload, 1) := dk_50 (dk_at dksX0_word_3 1 rfl rfl)
theorem dX0_word_73 : decode cX0_word 73 = .ok (.iload 4, 2) := dk_21 4 (dk_at dksX0_word_3 2 rfl rfl)
theorem dX0_word_75 : decode cX0_word 75 = .ok (.iaload, 1) := dk_46 (dk_at dksX0_word_3 4 rfl rfl)
theorem dX0_word_76 : decode cX0_word 76 = .ok (.i2b, 1) := dk_145 (dk_at dksX0_word_3 5 rfl rfl)
theorem dX0_word_77 : decode cX0_word 77 = .ok (.bastore, 1) := dk_84 (dk_at dksX0_word_3 6 rfl rfl)
theorem dX0_word_78 : decode cX0_word 78 = .ok (.iinc 4 1, 3) := dk_132 4 1 (dk_at dksX0_word_3 7 rfl rfl)
theorem dX0_word_81 : decode cX0_word 81 = .ok (.goto (-52), 3) := dk_167 255 204 (dk_at dksX0_word_3 10 rfl rfl)
theorem dX0_word_84 : decode cX0_word 84 = .ok (.aload_n 0, 1) := dk_42 (dk_at dksX0_word_3 13 rfl rfl)
theorem dX0_word_85 : decode cX0_word 85 = .ok (.getfield 46, 3) := dk_180 0 46 (dk_at dksX0_word_3 14 rfl rfl)
theorem dX0_word_88 : decode cX0_word 88 = .ok (.iload_n 1, 1) := dk_27 (dk_at dksX0_word_3 17 rfl rfl)
theorem dX0_word_89 : decode cX0_word 89 = .ok (.new 44, 3) := dk_187 0 44 (dk_at dksX0_word_3 18 rfl rfl)
theorem dX0_word_92 : decode cX0_word 92 = .ok (.dup, 1) := dk_89 (dk_at dksX0_word_3 21 rfl rfl)
theorem dX0_word_93 : decode cX0_word 93 = .ok (.aload_n 3, 1) := dk_45 (dk_at dksX0_word_3 22 rfl rfl)
theorem dX0_word_94 : decode cX0_word 94 = .ok (.invokespecial 137, 3) := dk_183 0 137 (dk_at dksX0_word_4 0 rfl rfl)
theorem dX0_word_97 : decode cX0_word 97 = .ok (.aastore, 1) := dk_83 (dk_at dksX0_word_4 3 rfl rfl)
theorem dX0_word_98 : decode cX0_word 98 = .ok (.aload_n 3, 1) := dk_45 (dk_at dksX0_word_4 4 rfl rfl)
theorem dX0_word_99 : decode cX0_word 99 = .ok (.arraylength, 1) := dk_190 (dk_at dksX0_word_4 5 rfl rfl)
theorem dX0_word_100 : decode cX0_word 100 = .ok (.ireturn, 1) := dk_172 (dk_at dksX0_word_4 6 rfl rfl)
theorem dX0_word_101 : decode cX0_word 101 = .ok (.astore_n 3, 1) := dk_78 (dk_at dksX0_word_4 7 rfl rfl)
theorem dX0_word_102 : decode cX0_word 102 = .ok (.aload_n 0, 1) := dk_42 (dk_at dksX0_word_4 8 rfl rfl)
theorem dX0_word_103 : decode cX0_word 103 = .ok (.iconst 1, 1) := dk_4 (dk_at dksX0_word_4 9 rfl rfl)
theorem dX0_word_104 : decode cX0_word 104 = .ok (.invokevirtual 103, 3) := dk_182 0 103 (dk_at dksX0_word_4 10 rfl rfl)
theorem dX0_word_107 : decode cX0_word 107 = .ok (.ireturn, 1) := dk_172 (dk_at dksX0_word_4 13 rfl rfl)
abbrev cX0_isWord : ByteArray := prog_1_method_18_code
def yX0_isWord : MethodName := ⟨RX0, "isWord", "(I)Z"⟩
def dkwX0_isWord_0 : List UInt8 := [26, 3, 16, 7, 184, 0, 93, 172]
abbrev dktX0_isWord_0 : List UInt8 := dkwX0_isWord_0 ++ []
theorem dksX0_isWord_0 : cX0_isWord.data.toList.drop 0 = dktX0_isWord_0 := by decide +kernel
theorem dX0_isWord_0 : decode cX0_isWord 0 = .ok (.iload_n 0, 1) := dk_26 (dk_at dksX0_isWord_0 0 rfl rfl)
theorem dX0_isWord_1 : decode cX0_isWord 1 = .ok (.iconst 0, 1) := dk_3 (dk_at dksX0_isWord_0 1 rfl rfl)
theorem dX0_isWord_2 : decode cX0_isWord 2 = .ok (.bipush 7, 2) := dk_16 7 (dk_at dksX0_isWord_0 2 rfl rfl)
theorem dX0_isWord_4 : decode cX0_isWord 4 = .ok (.invokestatic 93, 3) := dk_184 0 93 (dk_at dksX0_isWord_0 4 rfl rfl)
theorem dX0_isWord_7 : decode cX0_isWord 7 = .ok (.ireturn, 1) := dk_172 (dk_at dksX0_isWord_0 7 rfl rfl)
abbrev cX0_fault : ByteArray := prog_1_method_30_code
def yX0_fault : MethodName := ⟨RX0, "fault", "(I)I"⟩
def dkwX0_fault_1 : List UInt8 := [167, 0, 13, 42, 42, 180, 0, 40, 27, 50, 182, 0, 172, 172]
abbrev dktX0_fault_1 : List UInt8 := dkwX0_fault_1 ++ []
def dkwX0_fault_0 : List UInt8 := [27, 184, 0, 128, 154, 0, 5, 2, 172, 42, 180, 0, 40, 27, 50, 199, 0, 11, 42, 4, 182, 0, 103]
abbrev dktX0_fault_0 : List UInt8 := dkwX0_fault_0 ++ dktX0_fault_1
theorem dksX0_fault_0 : cX0_fault.data.toList.drop 0 = dktX0_fault_0 := by decide +kernel
theorem dksX0_fault_1 : cX0_fault.data.toList.drop 23 = dktX0_fault_1 := dk_seg dksX0_fault_0 23 rfl rfl
theorem dX0_fault_0 : decode cX0_fault 0 = .ok (.iload_n 1, 1) := dk_27 (dk_at dksX0_fault_0 0 rfl rfl)
theorem dX0_fault_1 : decode cX0_fault 1 = .ok (.invokestatic 128, 3) := dk_184 0 128 (dk_at dksX0_fault_0 1 rfl rfl)
theorem dX0_fault_4 : decode cX0_fault 4 = .ok (.ifCond .ne 5, 3) := dk_154 0 5 (dk_at dksX0_fault_0 4 rfl rfl)
theorem dX0_fault_7 : decode cX0_fault 7 = .ok (.iconst (-1), 1) := dk_2 (dk_at dksX0_fault_0 7 rfl rfl)
theorem dX0_fault_8 : decode cX0_fault 8 = .ok (.ireturn, 1) := dk_172 (dk_at dksX0_fault_0 8 rfl rfl)
theorem dX0_fault_9 : decode cX0_fault 9 = .ok (.aload_n 0, 1) := dk_42 (dk_at dksX0_fault_0 9 rfl rfl)
theorem dX0_fault_10 : decode cX0_fault 10 = .ok (.getfield 40, 3) := dk_180 0 40 (dk_at dksX0_fault_0 10 rfl rfl)
theorem dX0_fault_13 : decode cX0_fault 13 = .ok (.iload_n 1, 1) := dk_27 (dk_at dksX0_fault_0 13 rfl rfl)
theorem dX0_fault_14 : decode cX0_fault 14 = .ok (.aaload, 1) := dk_50 (dk_at dksX0_fault_0 14 rfl rfl)
theorem dX0_fault_15 : decode cX0_fault 15 = .ok (.ifnonnull 11, 3) := dk_199 0 11 (dk_at dksX0_fault_0 15 rfl rfl)
theorem dX0_fault_18 : decode cX0_fault 18 = .ok (.aload_n 0, 1) := dk_42 (dk_at dksX0_fault_0 18 rfl rfl)
theorem dX0_fault_19 : decode cX0_fault 19 = .ok (.iconst 1, 1) := dk_4 (dk_at dksX0_fault_0 19 rfl rfl)
theorem dX0_fault_20 : decode cX0_fault 20 = .ok (.invokevirtual 103, 3) := dk_182 0 103 (dk_at dksX0_fault_0 20 rfl rfl)
theorem dX0_fault_23 : decode cX0_fault 23 = .ok (.goto 13, 3) := dk_167 0 13 (dk_at dksX0_fault_1 0 rfl rfl)
theorem dX0_fault_26 : decode cX0_fault 26 = .ok (.aload_n 0, 1) := dk_42 (dk_at dksX0_fault_1 3 rfl rfl)
theorem dX0_fault_27 : decode cX0_fault 27 = .ok (.aload_n 0, 1) := dk_42 (dk_at dksX0_fault_1 4 rfl rfl)
theorem dX0_fault_28 : decode cX0_fault 28 = .ok (.getfield 40, 3) := dk_180 0 40 (dk_at dksX0_fault_1 5 rfl rfl)
theorem dX0_fault_31 : decode cX0_fault 31 = .ok (.iload_n 1, 1) := dk_27 (dk_at dksX0_fault_1 8 rfl rfl)
theorem dX0_fault_32 : decode cX0_fault 32 = .ok (.aaload, 1) := dk_50 (dk_at dksX0_fault_1 9 rfl rfl)
theorem dX0_fault_33 : decode cX0_fault 33 = .ok (.invokevirtual 172, 3) := dk_182 0 172 (dk_at dksX0_fault_1 10 rfl rfl)
theorem dX0_fault_36 : decode cX0_fault 36 = .ok (.ireturn, 1) := dk_172 (dk_at dksX0_fault_1 13 rfl rfl)
abbrev cX0_reads : ByteArray := prog_1_method_29_code
def yX0_reads : MethodName := ⟨RX0, "reads", "([B)I"⟩
def dkwX0_reads_2 : List UInt8 := [42, 180, 0, 140, 43, 190, 160, 0, 8, 16, 247, 167, 0, 7, 42, 180, 0, 140, 172]
abbrev dktX0_reads_2 : List UInt8 := dkwX0_reads_2 ++ []
def dkwX0_reads_1 : List UInt8 := [190, 160, 0, 6, 16, 247, 172, 42, 3, 182, 0, 162, 154, 0, 8, 42, 180, 0, 140, 172, 42, 182, 0, 169]
abbrev dktX0_reads_1 : List UInt8 := dkwX0_reads_1 ++ dktX0_reads_2
def dkwX0_reads_0 : List UInt8 := [42, 43, 181, 0, 143, 42, 3, 181, 0, 140, 42, 3, 181, 0, 150, 42, 182, 0, 169, 42, 180, 0, 140, 43]
abbrev dktX0_reads_0 : List UInt8 := dkwX0_reads_0 ++ dktX0_reads_1
theorem dksX0_reads_0 : cX0_reads.data.toList.drop 0 = dktX0_reads_0 := by decide +kernel
theorem dksX0_reads_1 : cX0_reads.data.toList.drop 24 = dktX0_reads_1 := dk_seg dksX0_reads_0 24 rfl rfl
theorem dksX0_reads_2 : cX0_reads.data.toList.drop 48 = dktX0_reads_2 := dk_seg dksX0_reads_1 24 rfl rfl
theorem dX0_reads_0 : decode cX0_reads 0 = .ok (.aload_n 0, 1) := dk_42 (dk_at dksX0_reads_0 0 rfl rfl)
theorem dX0_reads_1 : decode cX0_reads 1 = .ok (.aload_n 1, 1) := dk_43 (dk_at dksX0_reads_0 1 rfl rfl)
theorem dX0_reads_2 : decode cX0_reads 2 = .ok (.putfield 143, 3) := dk_181 0 143 (dk_at dksX0_reads_0 2 rfl rfl)
theorem dX0_reads_5 : decode cX0_reads 5 = .ok (.aload_n 0, 1) := dk_42 (dk_at dksX0_reads_0 5 rfl rfl)
theorem dX0_reads_6 : decode cX0_reads 6 = .ok (.iconst 0, 1) := dk_3 (dk_at dksX0_reads_0 6 rfl rfl)
theorem dX0_reads_7 : decode cX0_reads 7 = .ok (.putfield 140, 3) := dk_181 0 140 (dk_at dksX0_reads_0 7 rfl rfl)
theorem dX0_reads_10 : decode cX0_reads 10 = .ok (.aload_n 0, 1) := dk_42 (dk_at dksX0_reads_0 10 rfl rfl)
theorem dX0_reads_11 : decode cX0_reads 11 = .ok (.iconst 0, 1) := dk_3 (dk_at dksX0_reads_0 11 rfl rfl)
theorem dX0_reads_12 : decode cX0_reads 12 = .ok (.putfield 150, 3) := dk_181 0 150 (dk_at dksX0_reads_0 12 rfl rfl)
theorem dX0_reads_15 : decode cX0_reads 15 = .ok (.aload_n 0, 1) := dk_42 (dk_at dksX0_reads_0 15 rfl rfl)
theorem dX0_reads_16 : decode cX0_reads 16 = .ok (.invokevirtual 169, 3) := dk_182 0 169 (dk_at dksX0_reads_0 16 rfl rfl)
theorem dX0_reads_19 : decode cX0_reads 19 = .ok (.aload_n 0, 1) := dk_42 (dk_at dksX0_reads_0 19 rfl rfl)
theorem dX0_reads_20 : decode cX0_reads 20 = .ok (.getfield 140, 3) := dk_180 0 140 (dk_at dksX0_reads_0 20 rfl rfl)
theorem dX0_reads_23 : decode cX0_reads 23 = .ok (.aload_n 1, 1) := dk_43 (dk_at dksX0_reads_0 23 rfl rfl)
theorem dX0_reads_24 : decode cX0_reads 24 = .ok (.arraylength, 1) := dk_190 (dk_at dksX0_reads_1 0 rfl rfl)
theorem dX0_reads_25 : decode cX0_reads 25 = .ok (.if_icmp .ne 6, 3) := dk_160 0 6 (dk_at dksX0_reads_1 1 rfl rfl)
theorem dX0_reads_28 : decode cX0_reads 28 = .ok (.bipush (-9), 2) := dk_16 247 (dk_at dksX0_reads_1 4 rfl rfl)
theorem dX0_reads_30 : decode cX0_reads 30 = .ok (.ireturn, 1) := dk_172 (dk_at dksX0_reads_1 6 rfl rfl)
theorem dX0_reads_31 : decode cX0_reads 31 = .ok (.aload_n 0, 1) := dk_42 (dk_at dksX0_reads_1 7 rfl rfl)
theorem dX0_reads_32 : decode cX0_reads 32 = .ok (.iconst 0, 1) := dk_3 (dk_at dksX0_reads_1 8 rfl rfl)
theorem dX0_reads_33 : decode cX0_reads 33 = .ok (.invokevirtual 162, 3) := dk_182 0 162 (dk_at dksX0_reads_1 9 rfl rfl)
theorem dX0_reads_36 : decode cX0_reads 36 = .ok (.ifCond .ne 8, 3) := dk_154 0 8 (dk_at dksX0_reads_1 12 rfl rfl)
theorem dX0_reads_39 : decode cX0_reads 39 = .ok (.aload_n 0, 1) := dk_42 (dk_at dksX0_reads_1 15 rfl rfl)
theorem dX0_reads_40 : decode cX0_reads 40 = .ok (.getfield 140, 3) := dk_180 0 140 (dk_at dksX0_reads_1 16 rfl rfl)
theorem dX0_reads_43 : decode cX0_reads 43 = .ok (.ireturn, 1) := dk_172 (dk_at dksX0_reads_1 19 rfl rfl)
theorem dX0_reads_44 : decode cX0_reads 44 = .ok (.aload_n 0, 1) := dk_42 (dk_at dksX0_reads_1 20 rfl rfl)
theorem dX0_reads_45 : decode cX0_reads 45 = .ok (.invokevirtual 169, 3) := dk_182 0 169 (dk_at dksX0_reads_1 21 rfl rfl)
theorem dX0_reads_48 : decode cX0_reads 48 = .ok (.aload_n 0, 1) := dk_42 (dk_at dksX0_reads_2 0 rfl rfl)
theorem dX0_reads_49 : decode cX0_reads 49 = .ok (.getfield 140, 3) := dk_180 0 140 (dk_at dksX0_reads_2 1 rfl rfl)
theorem dX0_reads_52 : decode cX0_reads 52 = .ok (.aload_n 1, 1) := dk_43 (dk_at dksX0_reads_2 4 rfl rfl)
theorem dX0_reads_53 : decode cX0_reads 53 = .ok (.arraylength, 1) := dk_190 (dk_at dksX0_reads_2 5 rfl rfl)
theorem dX0_reads_54 : decode cX0_reads 54 = .ok (.if_icmp .ne 8, 3) := dk_160 0 8 (dk_at dksX0_reads_2 6 rfl rfl)
theorem dX0_reads_57 : decode cX0_reads 57 = .ok (.bipush (-9), 2) := dk_16 247 (dk_at dksX0_reads_2 9 rfl rfl)
theorem dX0_reads_59 : decode cX0_reads 59 = .ok (.goto 7, 3) := dk_167 0 7 (dk_at dksX0_reads_2 11 rfl rfl)
theorem dX0_reads_62 : decode cX0_reads 62 = .ok (.aload_n 0, 1) := dk_42 (dk_at dksX0_reads_2 14 rfl rfl)
theorem dX0_reads_63 : decode cX0_reads 63 = .ok (.getfield 140, 3) := dk_180 0 140 (dk_at dksX0_reads_2 15 rfl rfl)
theorem dX0_reads_66 : decode cX0_reads 66 = .ok (.ireturn, 1) := dk_172 (dk_at dksX0_reads_2 18 rfl rfl)
abbrev cX0_skips : ByteArray := prog_1_method_25_code
def yX0_skips : MethodName := ⟨RX0, "skips", "()V"⟩
def dkwX0_skips_0 : List UInt8 := [42, 182, 0, 146, 16, 32, 160, 0, 16, 42, 89, 180, 0, 140, 4, 96, 181, 0, 140, 167, 255, 237, 177]
abbrev dktX0_skips_0 : List UInt8 := dkwX0_skips_0 ++ []
theorem dksX0_skips_0 : cX0_skips.data.toList.drop 0 = dktX0_skips_0 := by decide +kernel
theorem dX0_skips_0 : decode cX0_skips 0 = .ok (.aload_n 0, 1) := dk_42 (dk_at dksX0_skips_0 0 rfl rfl)
theorem dX0_skips_1 : decode cX0_skips 1 = .ok (.invokevirtual 146, 3) := dk_182 0 146 (dk_at dksX0_skips_0 1 rfl rfl)
theorem dX0_skips_4 : decode cX0_skips 4 = .ok (.bipush 32, 2) := dk_16 32 (dk_at dksX0_skips_0 4 rfl rfl)
theorem dX0_skips_6 : decode cX0_skips 6 = .ok (.if_icmp .ne 16, 3) := dk_160 0 16 (dk_at dksX0_skips_0 6 rfl rfl)
theorem dX0_skips_9 : decode cX0_skips 9 = .ok (.aload_n 0, 1) := dk_42 (dk_at dksX0_skips_0 9 rfl rfl)
theorem dX0_skips_10 : decode cX0_skips 10 = .ok (.dup, 1) := dk_89 (dk_at dksX0_skips_0 10 rfl rfl)
theorem dX0_skips_11 : decode cX0_skips 11 = .ok (.getfield 140, 3) := dk_180 0 140 (dk_at dksX0_skips_0 11 rfl rfl)
theorem dX0_skips_14 : decode cX0_skips 14 = .ok (.iconst 1, 1) := dk_4 (dk_at dksX0_skips_0 14 rfl rfl)
theorem dX0_skips_15 : decode cX0_skips 15 = .ok (.iadd, 1) := dk_96 (dk_at dksX0_skips_0 15 rfl rfl)
theorem dX0_skips_16 : decode cX0_skips 16 = .ok (.putfield 140, 3) := dk_181 0 140 (dk_at dksX0_skips_0 16 rfl rfl)
theorem dX0_skips_19 : decode cX0_skips 19 = .ok (.goto (-19), 3) := dk_167 255 237 (dk_at dksX0_skips_0 19 rfl rfl)
theorem dX0_skips_22 : decode cX0_skips 22 = .ok (.return_, 1) := dk_177 (dk_at dksX0_skips_0 22 rfl rfl)
abbrev cX0_here : ByteArray := prog_1_method_24_code
def yX0_here : MethodName := ⟨RX0, "here", "()I"⟩
def dkwX0_here_1 : List UInt8 := [16, 247, 172]
abbrev dktX0_here_1 : List UInt8 := dkwX0_here_1 ++ []
def dkwX0_here_0 : List UInt8 := [42, 180, 0, 140, 42, 180, 0, 143, 190, 162, 0, 15, 42, 180, 0, 143, 42, 180, 0, 140, 51, 167, 0, 5]
abbrev dktX0_here_0 : List UInt8 := dkwX0_here_0 ++ dktX0_here_1
theorem dksX0_here_0 : cX0_here.data.toList.drop 0 = dktX0_here_0 := by decide +kernel
theorem dksX0_here_1 : cX0_here.data.toList.drop 24 = dktX0_here_1 := dk_seg dksX0_here_0 24 rfl rfl
theorem dX0_here_0 : decode cX0_here 0 = .ok (.aload_n 0, 1) := dk_42 (dk_at dksX0_here_0 0 rfl rfl)
theorem dX0_here_1 : decode cX0_here 1 = .ok (.getfield 140, 3) := dk_180 0 140 (dk_at dksX0_here_0 1 rfl rfl)
theorem dX0_here_4 : decode cX0_here 4 = .ok (.aload_n 0, 1) := dk_42 (dk_at dksX0_here_0 4 rfl rfl)
theorem dX0_here_5 : decode cX0_here 5 = .ok (.getfield 143, 3) := dk_180 0 143 (dk_at dksX0_here_0 5 rfl rfl)
theorem dX0_here_8 : decode cX0_here 8 = .ok (.arraylength, 1) := dk_190 (dk_at dksX0_here_0 8 rfl rfl)
theorem dX0_here_9 : decode cX0_here 9 = .ok (.if_icmp .ge 15, 3) := dk_162 0 15 (dk_at dksX0_here_0 9 rfl rfl)
theorem dX0_here_12 : decode cX0_here 12 = .ok (.aload_n 0, 1) := dk_42 (dk_at dksX0_here_0 12 rfl rfl)
theorem dX0_here_13 : decode cX0_here 13 = .ok (.getfield 143, 3) := dk_180 0 143 (dk_at dksX0_here_0 13 rfl rfl)
theorem dX0_here_16 : decode cX0_here 16 = .ok (.aload_n 0, 1) := dk_42 (dk_at dksX0_here_0 16 rfl rfl)
theorem dX0_here_17 : decode cX0_here 17 = .ok (.getfield 140, 3) := dk_180 0 140 (dk_at dksX0_here_0 17 rfl rfl)
theorem dX0_here_20 : decode cX0_here 20 = .ok (.baload, 1) := dk_51 (dk_at dksX0_here_0 20 rfl rfl)
theorem dX0_here_21 : decode cX0_here 21 = .ok (.goto 5, 3) := dk_167 0 5 (dk_at dksX0_here_0 21 rfl rfl)
theorem dX0_here_24 : decode cX0_here 24 = .ok (.bipush (-9), 2) := dk_16 247 (dk_at dksX0_here_1 0 rfl rfl)
theorem dX0_here_26 : decode cX0_here 26 = .ok (.ireturn, 1) := dk_172 (dk_at dksX0_here_1 2 rfl rfl)
abbrev cX0_readsItems : ByteArray := prog_1_method_28_code
def yX0_readsItems : MethodName := ⟨RX0, "readsItems", "(I)Z"⟩
def dkwX0_readsItems_5 : List UInt8 := [167, 255, 142]
abbrev dktX0_readsItems_5 : List UInt8 := dkwX0_readsItems_5 ++ []
def dkwX0_readsItems_4 : List UInt8 := [42, 89, 180, 0, 140, 4, 96, 181, 0, 140, 167, 0, 5, 28, 172, 4, 61, 42, 21, 4, 182, 0, 165]
abbrev dktX0_readsItems_4 : List UInt8 := dkwX0_readsItems_4 ++ dktX0_readsItems_5
def dkwX0_readsItems_3 : List UInt8 := [181, 0, 140, 42, 27, 4, 96, 182, 0, 162, 153, 0, 12, 42, 182, 0, 146, 16, 41, 159, 0, 5, 3, 172]
abbrev dktX0_readsItems_3 : List UInt8 := dkwX0_readsItems_3 ++ dktX0_readsItems_4
def dkwX0_readsItems_2 : List UInt8 := [182, 0, 158, 167, 0, 60, 29, 16, 40, 160, 0, 52, 27, 7, 162, 0, 47, 42, 89, 180, 0, 140, 4, 96]
abbrev dktX0_readsItems_2 : List UInt8 := dkwX0_readsItems_2 ++ dktX0_readsItems_3
def dkwX0_readsItems_1 : List UInt8 := [184, 0, 93, 153, 0, 25, 42, 89, 180, 0, 140, 4, 96, 181, 0, 140, 42, 29, 16, 97, 100, 145]
abbrev dktX0_readsItems_1 : List UInt8 := dkwX0_readsItems_1 ++ dktX0_readsItems_2
def dkwX0_readsItems_0 : List UInt8 := [3, 61, 42, 182, 0, 146, 62, 42, 180, 0, 150, 54, 4, 29, 16, 97, 16, 96, 42, 180, 0, 30, 96]
abbrev dktX0_readsItems_0 : List UInt8 := dkwX0_readsItems_0 ++ dktX0_readsItems_1
theorem dksX0_readsItems_0 : cX0_readsItems.data.toList.drop 0 = dktX0_readsItems_0 := by decide +kernel
theorem dksX0_readsItems_1 : cX0_readsItems.data.toList.drop 23 = dktX0_readsItems_1 := dk_seg dksX0_readsItems_0 23 rfl rfl
theorem dksX0_readsItems_2 : cX0_readsItems.data.toList.drop 45 = dktX0_readsItems_2 := dk_seg dksX0_readsItems_1 22 rfl rfl
theorem dksX0_readsItems_3 : cX0_readsItems.data.toList.drop 69 = dktX0_readsItems_3 := dk_seg dksX0_readsItems_2 24 rfl rfl
theorem dksX0_readsItems_4 : cX0_readsItems.data.toList.drop 93 = dktX0_readsItems_4 := dk_seg dksX0_readsItems_3 24 rfl rfl
theorem dksX0_readsItems_5 : cX0_readsItems.data.toList.drop 116 = dktX0_readsItems_5 := dk_seg dksX0_readsItems_4 23 rfl rfl
theorem dX0_readsItems_0 : decode cX0_readsItems 0 = .ok (.iconst 0, 1) := dk_3 (dk_at dksX0_readsItems_0 0 rfl rfl)
theorem dX0_readsItems_1 : decode cX0_readsItems 1 = .ok (.istore_n 2, 1) := dk_61 (dk_at dksX0_readsItems_0 1 rfl rfl)
theorem dX0_readsItems_2 : decode cX0_readsItems 2 = .ok (.aload_n 0, 1) := dk_42 (dk_at dksX0_readsItems_0 2 rfl rfl)
theorem dX0_readsItems_3 : decode cX0_readsItems 3 = .ok (.invokevirtual 146, 3) := dk_182 0 146 (dk_at dksX0_readsItems_0 3 rfl rfl)
theorem dX0_readsItems_6 : decode cX0_readsItems 6 = .ok (.istore_n 3, 1) := dk_62 (dk_at dksX0_readsItems_0 6 rfl rfl)
theorem dX0_readsItems_7 : decode cX0_readsItems 7 = .ok (.aload_n 0, 1) := dk_42 (dk_at dksX0_readsItems_0 7 rfl rfl)
theorem dX0_readsItems_8 : decode cX0_readsItems 8 = .ok (.getfield 150, 3) := dk_180 0 150 (dk_at dksX0_readsItems_0 8 rfl rfl)
theorem dX0_readsItems_11 : decode cX0_readsItems 11 = .ok (.istore 4, 2) := dk_54 4 (dk_at dksX0_readsItems_0 11 rfl rfl)
theorem dX0_readsItems_13 : decode cX0_readsItems 13 = .ok (.iload_n 3, 1) := dk_29 (dk_at dksX0_readsItems_0 13 rfl rfl)
theorem dX0_readsItems_14 : decode cX0_readsItems 14 = .ok (.bipush 97, 2) := dk_16 97 (dk_at dksX0_readsItems_0 14 rfl rfl)
theorem dX0_readsItems_16 : decode cX0_readsItems 16 = .ok (.bipush 96, 2) := dk_16 96 (dk_at dksX0_readsItems_0 16 rfl rfl)
theorem dX0_readsItems_18 : decode cX0_readsItems 18 = .ok (.aload_n 0, 1) := dk_42 (dk_at dksX0_readsItems_0 18 rfl rfl)
theorem dX0_readsItems_19 : decode cX0_readsItems 19 = .ok (.getfield 30, 3) := dk_180 0 30 (dk_at dksX0_readsItems_0 19 rfl rfl)
theorem dX0_readsItems_22 : decode cX0_readsItems 22 = .ok (.iadd, 1) := dk_96 (dk_at dksX0_readsItems_0 22 rfl rfl)
theorem dX0_readsItems_23 : decode cX0_readsItems 23 = .ok (.invokestatic 93, 3) := dk_184 0 93 (dk_at dksX0_readsItems_1 0 rfl rfl)
theorem dX0_readsItems_26 : decode cX0_readsItems 26 = .ok (.ifCond .eq 25, 3) := dk_153 0 25 (dk_at dksX0_readsItems_1 3 rfl rfl)
theorem dX0_readsItems_29 : decode cX0_readsItems 29 = .ok (.aload_n 0, 1) := dk_42 (dk_at dksX0_readsItems_1 6 rfl rfl)
theorem dX0_readsItems_30 : decode cX0_readsItems 30 = .ok (.dup, 1) := dk_89 (dk_at dksX0_readsItems_1 7 rfl rfl)
theorem dX0_readsItems_31 : decode cX0_readsItems 31 = .ok (.getfield 140, 3) := dk_180 0 140 (dk_at dksX0_readsItems_1 8 rfl rfl)
theorem dX0_readsItems_34 : decode cX0_readsItems 34 = .ok (.iconst 1, 1) := dk_4 (dk_at dksX0_readsItems_1 11 rfl rfl)
theorem dX0_readsItems_35 : decode cX0_readsItems 35 = .ok (.iadd, 1) := dk_96 (dk_at dksX0_readsItems_1 12 rfl rfl)
theorem dX0_readsItems_36 : decode cX0_readsItems 36 = .ok (.putfield 140, 3) := dk_181 0 140 (dk_at dksX0_readsItems_1 13 rfl rfl)
theorem dX0_readsItems_39 : decode cX0_readsItems 39 = .ok (.aload_n 0, 1) := dk_42 (dk_at dksX0_readsItems_1 16 rfl rfl)
theorem dX0_readsItems_40 : decode cX0_readsItems 40 = .ok (.iload_n 3, 1) := dk_29 (dk_at dksX0_readsItems_1 17 rfl rfl)
theorem dX0_readsItems_41 : decode cX0_readsItems 41 = .ok (.bipush 97, 2) := dk_16 97 (dk_at dksX0_readsItems_1 18 rfl rfl)
theorem dX0_readsItems_43 : decode cX0_readsItems 43 = .ok (.isub, 1) := dk_100 (dk_at dksX0_readsItems_1 20 rfl rfl)
theorem dX0_readsItems_44 : decode cX0_readsItems 44 = .ok (.i2b, 1) := dk_145 (dk_at dksX0_readsItems_1 21 rfl rfl)
theorem dX0_readsItems_45 : decode cX0_readsItems 45 = .ok (.invokevirtual 158, 3) := dk_182 0 158 (dk_at dksX0_readsItems_2 0 rfl rfl)
theorem dX0_readsItems_48 : decode cX0_readsItems 48 = .ok (.goto 60, 3) := dk_167 0 60 (dk_at dksX0_readsItems_2 3 rfl rfl)
theorem dX0_readsItems_51 : decode cX0_readsItems 51 = .ok (.iload_n 3, 1) := dk_29 (dk_at dksX0_readsItems_2 6 rfl rfl)
theorem dX0_readsItems_52 : decode cX0_readsItems 52 = .ok (.bipush 40, 2) := dk_16 40 (dk_at dksX0_readsItems_2 7 rfl rfl)
theorem dX0_readsItems_54 : decode cX0_readsItems 54 = .ok (.if_icmp .ne 52, 3) := dk_160 0 52 (dk_at dksX0_readsItems_2 9 rfl rfl)
theorem dX0_readsItems_57 : decode cX0_readsItems 57 = .ok (.iload_n 1, 1) := dk_27 (dk_at dksX0_readsItems_2 12 rfl rfl)
theorem dX0_readsItems_58 : decode cX0_readsItems 58 = .ok (.iconst 4, 1) := dk_7 (dk_at dksX0_readsItems_2 13 rfl rfl)
theorem dX0_readsItems_59 : decode cX0_readsItems 59 = .ok (.if_icmp .ge 47, 3) := dk_162 0 47 (dk_at dksX0_readsItems_2 14 rfl rfl)
theorem dX0_readsItems_62 : decode cX0_readsItems 62 = .ok (.aload_n 0, 1) := dk_42 (dk_at dksX0_readsItems_2 17 rfl rfl)
theorem dX0_readsItems_63 : decode cX0_readsItems 63 = .ok (.dup, 1) := dk_89 (dk_at dksX0_readsItems_2 18 rfl rfl)
theorem dX0_readsItems_64 : decode cX0_readsItems 64 = .ok (.getfield 140, 3) := dk_180 0 140 (dk_at dksX0_readsItems_2 19 rfl rfl)
theorem dX0_readsItems_67 : decode cX0_readsItems 67 = .ok (.iconst 1, 1) := dk_4 (dk_at dksX0_readsItems_2 22 rfl rfl)
theorem dX0_readsItems_68 : decode cX0_readsItems 68 = .ok (.iadd, 1) := dk_96 (dk_at dksX0_readsItems_2 23 rfl rfl)
theorem dX0_readsItems_69 : decode cX0_readsItems 69 = .ok (.putfield 140, 3) := dk_181 0 140 (dk_at dksX0_readsItems_3 0 rfl rfl)
theorem dX0_readsItems_72 : decode cX0_readsItems 72 = .ok (.aload_n 0, 1) := dk_42 (dk_at dksX0_readsItems_3 3 rfl rfl)
theorem dX0_readsItems_73 : decode cX0_readsItems 73 = .ok (.iload_n 1, 1) := dk_27 (dk_at dksX0_readsItems_3 4 rfl rfl)
theorem dX0_readsItems_74 : decode cX0_readsItems 74 = .ok (.iconst 1, 1) := dk_4 (dk_at dksX0_readsItems_3 5 rfl rfl)
theorem dX0_readsItems_75 : decode cX0_readsItems 75 = .ok (.iadd, 1) := dk_96 (dk_at dksX0_readsItems_3 6 rfl rfl)
theorem dX0_readsItems_76 : decode cX0_readsItems 76 = .ok (.invokevirtual 162, 3) := dk_182 0 162 (dk_at dksX0_readsItems_3 7 rfl rfl)
theorem dX0_readsItems_79 : decode cX0_readsItems 79 = .ok (.ifCond .eq 12, 3) := dk_153 0 12 (dk_at dksX0_readsItems_3 10 rfl rfl)
theorem dX0_readsItems_82 : decode cX0_readsItems 82 = .ok (.aload_n 0, 1) := dk_42 (dk_at dksX0_readsItems_3 13 rfl rfl)
theorem dX0_readsItems_83 : decode cX0_readsItems 83 = .ok (.invokevirtual 146, 3) := dk_182 0 146 (dk_at dksX0_readsItems_3 14 rfl rfl)
theorem dX0_readsItems_86 : decode cX0_readsItems 86 = .ok (.bipush 41, 2) := dk_16 41 (dk_at dksX0_readsItems_3 17 rfl rfl)
theorem dX0_readsItems_88 : decode cX0_readsItems 88 = .ok (.if_icmp .eq 5, 3) := dk_159 0 5 (dk_at dksX0_readsItems_3 19 rfl rfl)
theorem dX0_readsItems_91 : decode cX0_readsItems 91 = .ok (.iconst 0, 1) := dk_3 (dk_at dksX0_readsItems_3 22 rfl rfl)
theorem dX0_readsItems_92 : decode cX0_readsItems 92 = .ok (.ireturn, 1) := dk_172 (dk_at dksX0_readsItems_3 23 rfl rfl)
theorem dX0_readsItems_93 : decode cX0_readsItems 93 = .ok (.aload_n 0, 1) := dk_42 (dk_at dksX0_readsItems_4 0 rfl rfl)
theorem dX0_readsItems_94 : decode cX0_readsItems 94 = .ok (.dup, 1) := dk_89 (dk_at dksX0_readsItems_4 1 rfl rfl)
theorem dX0_readsItems_95 : decode cX0_readsItems 95 = .ok (.getfield 140, 3) := dk_180 0 140 (dk_at dksX0_readsItems_4 2 rfl rfl)
theorem dX0_readsItems_98 : decode cX0_readsItems 98 = .ok (.iconst 1, 1) := dk_4 (dk_at dksX0_readsItems_4 5 rfl rfl)
theorem dX0_readsItems_99 : decode cX0_readsItems 99 = .ok (.iadd, 1) := dk_96 (dk_at dksX0_readsItems_4 6 rfl rfl)
theorem dX0_readsItems_100 : decode cX0_readsItems 100 = .ok (.putfield 140, 3) := dk_181 0 140 (dk_at dksX0_readsItems_4 7 rfl rfl)
theorem dX0_readsItems_103 : decode cX0_readsItems 103 = .ok (.goto 5, 3) := dk_167 0 5 (dk_at dksX0_readsItems_4 10 rfl rfl)
theorem dX0_readsItems_106 : decode cX0_readsItems 106 = .ok (.iload_n 2, 1) := dk_28 (dk_at dksX0_readsItems_4 13 rfl rfl)
theorem dX0_readsItems_107 : decode cX0_readsItems 107 = .ok (.ireturn, 1) := dk_172 (dk_at dksX0_readsItems_4 14 rfl rfl)
theorem dX0_readsItems_108 : decode cX0_readsItems 108 = .ok (.iconst 1, 1) := dk_4 (dk_at dksX0_readsItems_4 15 rfl rfl)
theorem dX0_readsItems_109 : decode cX0_readsItems 109 = .ok (.istore_n 2, 1) := dk_61 (dk_at dksX0_readsItems_4 16 rfl rfl)
theorem dX0_readsItems_110 : decode cX0_readsItems 110 = .ok (.aload_n 0, 1) := dk_42 (dk_at dksX0_readsItems_4 17 rfl rfl)
theorem dX0_readsItems_111 : decode cX0_readsItems 111 = .ok (.iload 4, 2) := dk_21 4 (dk_at dksX0_readsItems_4 18 rfl rfl)
theorem dX0_readsItems_113 : decode cX0_readsItems 113 = .ok (.invokevirtual 165, 3) := dk_182 0 165 (dk_at dksX0_readsItems_4 20 rfl rfl)
theorem dX0_readsItems_116 : decode cX0_readsItems 116 = .ok (.goto (-114), 3) := dk_167 255 142 (dk_at dksX0_readsItems_5 0 rfl rfl)
abbrev cX0_add : ByteArray := prog_1_method_26_code
def yX0_add : MethodName := ⟨RX0, "add", "(B)V"⟩
def dkwX0_add_1 : List UInt8 := [180, 0, 150, 4, 96, 184, 0, 153, 181, 0, 150, 177]
abbrev dktX0_add_1 : List UInt8 := dkwX0_add_1 ++ []
def dkwX0_add_0 : List UInt8 := [42, 180, 0, 150, 16, 40, 162, 0, 13, 42, 180, 0, 50, 42, 180, 0, 150, 27, 84, 42, 17, 3, 232, 42]
abbrev dktX0_add_0 : List UInt8 := dkwX0_add_0 ++ dktX0_add_1
theorem dksX0_add_0 : cX0_add.data.toList.drop 0 = dktX0_add_0 := by decide +kernel
theorem dksX0_add_1 : cX0_add.data.toList.drop 24 = dktX0_add_1 := dk_seg dksX0_add_0 24 rfl rfl
theorem dX0_add_0 : decode cX0_add 0 = .ok (.aload_n 0, 1) := dk_42 (dk_at dksX0_add_0 0 rfl rfl)
theorem dX0_add_1 : decode cX0_add 1 = .ok (.getfield 150, 3) := dk_180 0 150 (dk_at dksX0_add_0 1 rfl rfl)
theorem dX0_add_4 : decode cX0_add 4 = .ok (.bipush 40, 2) := dk_16 40 (dk_at dksX0_add_0 4 rfl rfl)
theorem dX0_add_6 : decode cX0_add 6 = .ok (.if_icmp .ge 13, 3) := dk_162 0 13 (dk_at dksX0_add_0 6 rfl rfl)
theorem dX0_add_9 : decode cX0_add 9 = .ok (.aload_n 0, 1) := dk_42 (dk_at dksX0_add_0 9 rfl rfl)
theorem dX0_add_10 : decode cX0_add 10 = .ok (.getfield 50, 3) := dk_180 0 50 (dk_at dksX0_add_0 10 rfl rfl)
theorem dX0_add_13 : decode cX0_add 13 = .ok (.aload_n 0, 1) := dk_42 (dk_at dksX0_add_0 13 rfl rfl)
theorem dX0_add_14 : decode cX0_add 14 = .ok (.getfield 150, 3) := dk_180 0 150 (dk_at dksX0_add_0 14 rfl rfl)
theorem dX0_add_17 : decode cX0_add 17 = .ok (.iload_n 1, 1) := dk_27 (dk_at dksX0_add_0 17 rfl rfl)
theorem dX0_add_18 : decode cX0_add 18 = .ok (.bastore, 1) := dk_84 (dk_at dksX0_add_0 18 rfl rfl)
theorem dX0_add_19 : decode cX0_add 19 = .ok (.aload_n 0, 1) := dk_42 (dk_at dksX0_add_0 19 rfl rfl)
theorem dX0_add_20 : decode cX0_add 20 = .ok (.sipush 1000, 3) := dk_17 3 232 (dk_at dksX0_add_0 20 rfl rfl)
theorem dX0_add_23 : decode cX0_add 23 = .ok (.aload_n 0, 1) := dk_42 (dk_at dksX0_add_0 23 rfl rfl)
theorem dX0_add_24 : decode cX0_add 24 = .ok (.getfield 150, 3) := dk_180 0 150 (dk_at dksX0_add_1 0 rfl rfl)
theorem dX0_add_27 : decode cX0_add 27 = .ok (.iconst 1, 1) := dk_4 (dk_at dksX0_add_1 3 rfl rfl)
theorem dX0_add_28 : decode cX0_add 28 = .ok (.iadd, 1) := dk_96 (dk_at dksX0_add_1 4 rfl rfl)
theorem dX0_add_29 : decode cX0_add 29 = .ok (.invokestatic 153, 3) := dk_184 0 153 (dk_at dksX0_add_1 5 rfl rfl)
theorem dX0_add_32 : decode cX0_add 32 = .ok (.putfield 150, 3) := dk_181 0 150 (dk_at dksX0_add_1 8 rfl rfl)
theorem dX0_add_35 : decode cX0_add 35 = .ok (.return_, 1) := dk_177 (dk_at dksX0_add_1 11 rfl rfl)
abbrev cX0_repeats : ByteArray := prog_1_method_27_code
def yX0_repeats : MethodName := ⟨RX0, "repeats", "(I)V"⟩
def dkwX0_repeats_4 : List UInt8 := [167, 255, 206, 177]
abbrev dktX0_repeats_4 : List UInt8 := dkwX0_repeats_4 ++ []
def dkwX0_repeats_3 : List UInt8 := [180, 0, 50, 27, 21, 5, 96, 51, 167, 0, 4, 3, 182, 0, 158, 132, 5, 1, 167, 255, 221, 132, 4, 1]
abbrev dktX0_repeats_3 : List UInt8 := dkwX0_repeats_3 ++ dktX0_repeats_4
def dkwX0_repeats_2 : List UInt8 := [162, 0, 50, 3, 54, 5, 21, 5, 29, 162, 0, 35, 42, 27, 21, 5, 96, 16, 40, 162, 0, 15, 42]
abbrev dktX0_repeats_2 : List UInt8 := dkwX0_repeats_2 ++ dktX0_repeats_3
def dkwX0_repeats_1 : List UInt8 := [89, 180, 0, 140, 4, 96, 181, 0, 140, 42, 180, 0, 150, 27, 100, 62, 4, 54, 4, 21, 4, 28]
abbrev dktX0_repeats_1 : List UInt8 := dkwX0_repeats_1 ++ dktX0_repeats_2
def dkwX0_repeats_0 : List UInt8 := [42, 182, 0, 146, 16, 49, 16, 57, 184, 0, 93, 154, 0, 4, 177, 42, 182, 0, 146, 16, 48, 100, 61, 42]
abbrev dktX0_repeats_0 : List UInt8 := dkwX0_repeats_0 ++ dktX0_repeats_1
theorem dksX0_repeats_0 : cX0_repeats.data.toList.drop 0 = dktX0_repeats_0 := by decide +kernel
theorem dksX0_repeats_1 : cX0_repeats.data.toList.drop 24 = dktX0_repeats_1 := dk_seg dksX0_repeats_0 24 rfl rfl
theorem dksX0_repeats_2 : cX0_repeats.data.toList.drop 46 = dktX0_repeats_2 := dk_seg dksX0_repeats_1 22 rfl rfl
theorem dksX0_repeats_3 : cX0_repeats.data.toList.drop 69 = dktX0_repeats_3 := dk_seg dksX0_repeats_2 23 rfl rfl
theorem dksX0_repeats_4 : cX0_repeats.data.toList.drop 93 = dktX0_repeats_4 := dk_seg dksX0_repeats_3 24 rfl rfl
theorem dX0_repeats_0 : decode cX0_repeats 0 = .ok (.aload_n 0, 1) := dk_42 (dk_at dksX0_repeats_0 0 rfl rfl)
theorem dX0_repeats_1 : decode cX0_repeats 1 = .ok (.invokevirtual 146, 3) := dk_182 0 146 (dk_at dksX0_repeats_0 1 rfl rfl)
theorem dX0_repeats_4 : decode cX0_repeats 4 = .ok (.bipush 49, 2) := dk_16 49 (dk_at dksX0_repeats_0 4 rfl rfl)
theorem dX0_repeats_6 : decode cX0_repeats 6 = .ok (.bipush 57, 2) := dk_16 57 (dk_at dksX0_repeats_0 6 rfl rfl)
theorem dX0_repeats_8 : decode cX0_repeats 8 = .ok (.invokestatic 93, 3) := dk_184 0 93 (dk_at dksX0_repeats_0 8 rfl rfl)
theorem dX0_repeats_11 : decode cX0_repeats 11 = .ok (.ifCond .ne 4, 3) := dk_154 0 4 (dk_at dksX0_repeats_0 11 rfl rfl)
theorem dX0_repeats_14 : decode cX0_repeats 14 = .ok (.return_, 1) := dk_177 (dk_at dksX0_repeats_0 14 rfl rfl)
theorem dX0_repeats_15 : decode cX0_repeats 15 = .ok (.aload_n 0, 1) := dk_42 (dk_at dksX0_repeats_0 15 rfl rfl)
theorem dX0_repeats_16 : decode cX0_repeats 16 = .ok (.invokevirtual 146, 3) := dk_182 0 146 (dk_at dksX0_repeats_0 16 rfl rfl)
theorem dX0_repeats_19 : decode cX0_repeats 19 = .ok (.bipush 48, 2) := dk_16 48 (dk_at dksX0_repeats_0 19 rfl rfl)
theorem dX0_repeats_21 : decode cX0_repeats 21 = .ok (.isub, 1) := dk_100 (dk_at dksX0_repeats_0 21 rfl rfl)
theorem dX0_repeats_22 : decode cX0_repeats 22 = .ok (.istore_n 2, 1) := dk_61 (dk_at dksX0_repeats_0 22 rfl rfl)
theorem dX0_repeats_23 : decode cX0_repeats 23 = .ok (.aload_n 0, 1) := dk_42 (dk_at dksX0_repeats_0 23 rfl rfl)
theorem dX0_repeats_24 : decode cX0_repeats 24 = .ok (.dup, 1) := dk_89 (dk_at dksX0_repeats_1 0 rfl rfl)
theorem dX0_repeats_25 : decode cX0_repeats 25 = .ok (.getfield 140, 3) := dk_180 0 140 (dk_at dksX0_repeats_1 1 rfl rfl)
theorem dX0_repeats_28 : decode cX0_repeats 28 = .ok (.iconst 1, 1) := dk_4 (dk_at dksX0_repeats_1 4 rfl rfl)
theorem dX0_repeats_29 : decode cX0_repeats 29 = .ok (.iadd, 1) := dk_96 (dk_at dksX0_repeats_1 5 rfl rfl)
theorem dX0_repeats_30 : decode cX0_repeats 30 = .ok (.putfield 140, 3) := dk_181 0 140 (dk_at dksX0_repeats_1 6 rfl rfl)
theorem dX0_repeats_33 : decode cX0_repeats 33 = .ok (.aload_n 0, 1) := dk_42 (dk_at dksX0_repeats_1 9 rfl rfl)
theorem dX0_repeats_34 : decode cX0_repeats 34 = .ok (.getfield 150, 3) := dk_180 0 150 (dk_at dksX0_repeats_1 10 rfl rfl)
theorem dX0_repeats_37 : decode cX0_repeats 37 = .ok (.iload_n 1, 1) := dk_27 (dk_at dksX0_repeats_1 13 rfl rfl)
theorem dX0_repeats_38 : decode cX0_repeats 38 = .ok (.isub, 1) := dk_100 (dk_at dksX0_repeats_1 14 rfl rfl)
theorem dX0_repeats_39 : decode cX0_repeats 39 = .ok (.istore_n 3, 1) := dk_62 (dk_at dksX0_repeats_1 15 rfl rfl)
theorem dX0_repeats_40 : decode cX0_repeats 40 = .ok (.iconst 1, 1) := dk_4 (dk_at dksX0_repeats_1 16 rfl rfl)
theorem dX0_repeats_41 : decode cX0_repeats 41 = .ok (.istore 4, 2) := dk_54 4 (dk_at dksX0_repeats_1 17 rfl rfl)
theorem dX0_repeats_43 : decode cX0_repeats 43 = .ok (.iload 4, 2) := dk_21 4 (dk_at dksX0_repeats_1 19 rfl rfl)
theorem dX0_repeats_45 : decode cX0_repeats 45 = .ok (.iload_n 2, 1) := dk_28 (dk_at dksX0_repeats_1 21 rfl rfl)
theorem dX0_repeats_46 : decode cX0_repeats 46 = .ok (.if_icmp .ge 50, 3) := dk_162 0 50 (dk_at dksX0_repeats_2 0 rfl rfl)
theorem dX0_repeats_49 : decode cX0_repeats 49 = .ok (.iconst 0, 1) := dk_3 (dk_at dksX0_repeats_2 3 rfl rfl)
theorem dX0_repeats_50 : decode cX0_repeats 50 = .ok (.istore 5, 2) := dk_54 5 (dk_at dksX0_repeats_2 4 rfl rfl)
theorem dX0_repeats_52 : decode cX0_repeats 52 = .ok (.iload 5, 2) := dk_21 5 (dk_at dksX0_repeats_2 6 rfl rfl)
theorem dX0_repeats_54 : decode cX0_repeats 54 = .ok (.iload_n 3, 1) := dk_29 (dk_at dksX0_repeats_2 8 rfl rfl)
theorem dX0_repeats_55 : decode cX0_repeats 55 = .ok (.if_icmp .ge 35, 3) := dk_162 0 35 (dk_at dksX0_repeats_2 9 rfl rfl)
theorem dX0_repeats_58 : decode cX0_repeats 58 = .ok (.aload_n 0, 1) := dk_42 (dk_at dksX0_repeats_2 12 rfl rfl)
theorem dX0_repeats_59 : decode cX0_repeats 59 = .ok (.iload_n 1, 1) := dk_27 (dk_at dksX0_repeats_2 13 rfl rfl)
theorem dX0_repeats_60 : decode cX0_repeats 60 = .ok (.iload 5, 2) := dk_21 5 (dk_at dksX0_repeats_2 14 rfl rfl)
theorem dX0_repeats_62 : decode cX0_repeats 62 = .ok (.iadd, 1) := dk_96 (dk_at dksX0_repeats_2 16 rfl rfl)
theorem dX0_repeats_63 : decode cX0_repeats 63 = .ok (.bipush 40, 2) := dk_16 40 (dk_at dksX0_repeats_2 17 rfl rfl)
theorem dX0_repeats_65 : decode cX0_repeats 65 = .ok (.if_icmp .ge 15, 3) := dk_162 0 15 (dk_at dksX0_repeats_2 19 rfl rfl)
theorem dX0_repeats_68 : decode cX0_repeats 68 = .ok (.aload_n 0, 1) := dk_42 (dk_at dksX0_repeats_2 22 rfl rfl)
theorem dX0_repeats_69 : decode cX0_repeats 69 = .ok (.getfield 50, 3) := dk_180 0 50 (dk_at dksX0_repeats_3 0 rfl rfl)
theorem dX0_repeats_72 : decode cX0_repeats 72 = .ok (.iload_n 1, 1) := dk_27 (dk_at dksX0_repeats_3 3 rfl rfl)
theorem dX0_repeats_73 : decode cX0_repeats 73 = .ok (.iload 5, 2) := dk_21 5 (dk_at dksX0_repeats_3 4 rfl rfl)
theorem dX0_repeats_75 : decode cX0_repeats 75 = .ok (.iadd, 1) := dk_96 (dk_at dksX0_repeats_3 6 rfl rfl)
theorem dX0_repeats_76 : decode cX0_repeats 76 = .ok (.baload, 1) := dk_51 (dk_at dksX0_repeats_3 7 rfl rfl)
theorem dX0_repeats_77 : decode cX0_repeats 77 = .ok (.goto 4, 3) := dk_167 0 4 (dk_at dksX0_repeats_3 8 rfl rfl)
theorem dX0_repeats_80 : decode cX0_repeats 80 = .ok (.iconst 0, 1) := dk_3 (dk_at dksX0_repeats_3 11 rfl rfl)
theorem dX0_repeats_81 : decode cX0_repeats 81 = .ok (.invokevirtual 158, 3) := dk_182 0 158 (dk_at dksX0_repeats_3 12 rfl rfl)
theorem dX0_repeats_84 : decode cX0_repeats 84 = .ok (.iinc 5 1, 3) := dk_132 5 1 (dk_at dksX0_repeats_3 15 rfl rfl)
theorem dX0_repeats_87 : decode cX0_repeats 87 = .ok (.goto (-35), 3) := dk_167 255 221 (dk_at dksX0_repeats_3 18 rfl rfl)
theorem dX0_repeats_90 : decode cX0_repeats 90 = .ok (.iinc 4 1, 3) := dk_132 4 1 (dk_at dksX0_repeats_3 21 rfl rfl)
theorem dX0_repeats_93 : decode cX0_repeats 93 = .ok (.goto (-50), 3) := dk_167 255 206 (dk_at dksX0_repeats_4 0 rfl rfl)
theorem dX0_repeats_96 : decode cX0_repeats 96 = .ok (.return_, 1) := dk_177 (dk_at dksX0_repeats_4 3 rfl rfl)
abbrev cX0_tell : ByteArray := prog_1_method_31_code
def yX0_tell : MethodName := ⟨RX0, "tell", "(II)I"⟩
def dkwX0_tell_4 : List UInt8 := [180, 0, 150, 172]
abbrev dktX0_tell_4 : List UInt8 := dkwX0_tell_4 ++ []
def dkwX0_tell_3 : List UInt8 := [42, 180, 0, 50, 3, 42, 180, 0, 150, 184, 0, 178, 42, 180, 0, 40, 28, 50, 190, 183, 0, 182, 83, 42]
abbrev dktX0_tell_3 : List UInt8 := dkwX0_tell_3 ++ dktX0_tell_4
def dkwX0_tell_2 : List UInt8 := [16, 252, 172, 42, 180, 0, 150, 16, 40, 164, 0, 6, 16, 254, 172, 42, 180, 0, 46, 27, 187, 0, 176, 89]
abbrev dktX0_tell_2 : List UInt8 := dkwX0_tell_2 ++ dktX0_tell_3
def dkwX0_tell_1 : List UInt8 := [199, 0, 9, 42, 4, 182, 0, 103, 172, 42, 42, 180, 0, 40, 28, 50, 182, 0, 172, 16, 247, 159, 0, 6]
abbrev dktX0_tell_1 : List UInt8 := dkwX0_tell_1 ++ dktX0_tell_2
def dkwX0_tell_0 : List UInt8 := [27, 184, 0, 131, 153, 0, 10, 28, 184, 0, 128, 154, 0, 5, 2, 172, 42, 180, 0, 40, 28, 50]
abbrev dktX0_tell_0 : List UInt8 := dkwX0_tell_0 ++ dktX0_tell_1
theorem dksX0_tell_0 : cX0_tell.data.toList.drop 0 = dktX0_tell_0 := by decide +kernel
theorem dksX0_tell_1 : cX0_tell.data.toList.drop 22 = dktX0_tell_1 := dk_seg dksX0_tell_0 22 rfl rfl
theorem dksX0_tell_2 : cX0_tell.data.toList.drop 46 = dktX0_tell_2 := dk_seg dksX0_tell_1 24 rfl rfl
theorem dksX0_tell_3 : cX0_tell.data.toList.drop 70 = dktX0_tell_3 := dk_seg dksX0_tell_2 24 rfl rfl
theorem dksX0_tell_4 : cX0_tell.data.toList.drop 94 = dktX0_tell_4 := dk_seg dksX0_tell_3 24 rfl rfl
theorem dX0_tell_0 : decode cX0_tell 0 = .ok (.iload_n 1, 1) := dk_27 (dk_at dksX0_tell_0 0 rfl rfl)
theorem dX0_tell_1 : decode cX0_tell 1 = .ok (.invokestatic 131, 3) := dk_184 0 131 (dk_at dksX0_tell_0 1 rfl rfl)
theorem dX0_tell_4 : decode cX0_tell 4 = .ok (.ifCond .eq 10, 3) := dk_153 0 10 (dk_at dksX0_tell_0 4 rfl rfl)
theorem dX0_tell_7 : decode cX0_tell 7 = .ok (.iload_n 2, 1) := dk_28 (dk_at dksX0_tell_0 7 rfl rfl)
theorem dX0_tell_8 : decode cX0_tell 8 = .ok (.invokestatic 128, 3) := dk_184 0 128 (dk_at dksX0_tell_0 8 rfl rfl)
theorem dX0_tell_11 : decode cX0_tell 11 = .ok (.ifCond .ne 5, 3) := dk_154 0 5 (dk_at dksX0_tell_0 11 rfl rfl)
theorem dX0_tell_14 : decode cX0_tell 14 = .ok (.iconst (-1), 1) := dk_2 (dk_at dksX0_tell_0 14 rfl rfl)
theorem dX0_tell_15 : decode cX0_tell 15 = .ok (.ireturn, 1) := dk_172 (dk_at dksX0_tell_0 15 rfl rfl)
theorem dX0_tell_16 : decode cX0_tell 16 = .ok (.aload_n 0, 1) := dk_42 (dk_at dksX0_tell_0 16 rfl rfl)
theorem dX0_tell_17 : decode cX0_tell 17 = .ok (.getfield 40, 3) := dk_180 0 40 (dk_at dksX0_tell_0 17 rfl rfl)
theorem dX0_tell_20 : decode cX0_tell 20 = .ok (.iload_n 2, 1) := dk_28 (dk_at dksX0_tell_0 20 rfl rfl)
theorem dX0_tell_21 : decode cX0_tell 21 = .ok (.aaload, 1) := dk_50 (dk_at dksX0_tell_0 21 rfl rfl)
theorem dX0_tell_22 : decode cX0_tell 22 = .ok (.ifnonnull 9, 3) := dk_199 0 9 (dk_at dksX0_tell_1 0 rfl rfl)
theorem dX0_tell_25 : decode cX0_tell 25 = .ok (.aload_n 0, 1) := dk_42 (dk_at dksX0_tell_1 3 rfl rfl)
theorem dX0_tell_26 : decode cX0_tell 26 = .ok (.iconst 1, 1) := dk_4 (dk_at dksX0_tell_1 4 rfl rfl)
theorem dX0_tell_27 : decode cX0_tell 27 = .ok (.invokevirtual 103, 3) := dk_182 0 103 (dk_at dksX0_tell_1 5 rfl rfl)
theorem dX0_tell_30 : decode cX0_tell 30 = .ok (.ireturn, 1) := dk_172 (dk_at dksX0_tell_1 8 rfl rfl)
theorem dX0_tell_31 : decode cX0_tell 31 = .ok (.aload_n 0, 1) := dk_42 (dk_at dksX0_tell_1 9 rfl rfl)
theorem dX0_tell_32 : decode cX0_tell 32 = .ok (.aload_n 0, 1) := dk_42 (dk_at dksX0_tell_1 10 rfl rfl)
theorem dX0_tell_33 : decode cX0_tell 33 = .ok (.getfield 40, 3) := dk_180 0 40 (dk_at dksX0_tell_1 11 rfl rfl)
theorem dX0_tell_36 : decode cX0_tell 36 = .ok (.iload_n 2, 1) := dk_28 (dk_at dksX0_tell_1 14 rfl rfl)
theorem dX0_tell_37 : decode cX0_tell 37 = .ok (.aaload, 1) := dk_50 (dk_at dksX0_tell_1 15 rfl rfl)
theorem dX0_tell_38 : decode cX0_tell 38 = .ok (.invokevirtual 172, 3) := dk_182 0 172 (dk_at dksX0_tell_1 16 rfl rfl)
theorem dX0_tell_41 : decode cX0_tell 41 = .ok (.bipush (-9), 2) := dk_16 247 (dk_at dksX0_tell_1 19 rfl rfl)
theorem dX0_tell_43 : decode cX0_tell 43 = .ok (.if_icmp .eq 6, 3) := dk_159 0 6 (dk_at dksX0_tell_1 21 rfl rfl)
theorem dX0_tell_46 : decode cX0_tell 46 = .ok (.bipush (-4), 2) := dk_16 252 (dk_at dksX0_tell_2 0 rfl rfl)
theorem dX0_tell_48 : decode cX0_tell 48 = .ok (.ireturn, 1) := dk_172 (dk_at dksX0_tell_2 2 rfl rfl)
theorem dX0_tell_49 : decode cX0_tell 49 = .ok (.aload_n 0, 1) := dk_42 (dk_at dksX0_tell_2 3 rfl rfl)
theorem dX0_tell_50 : decode cX0_tell 50 = .ok (.getfield 150, 3) := dk_180 0 150 (dk_at dksX0_tell_2 4 rfl rfl)
theorem dX0_tell_53 : decode cX0_tell 53 = .ok (.bipush 40, 2) := dk_16 40 (dk_at dksX0_tell_2 7 rfl rfl)
theorem dX0_tell_55 : decode cX0_tell 55 = .ok (.if_icmp .le 6, 3) := dk_164 0 6 (dk_at dksX0_tell_2 9 rfl rfl)
theorem dX0_tell_58 : decode cX0_tell 58 = .ok (.bipush (-2), 2) := dk_16 254 (dk_at dksX0_tell_2 12 rfl rfl)
theorem dX0_tell_60 : decode cX0_tell 60 = .ok (.ireturn, 1) := dk_172 (dk_at dksX0_tell_2 14 rfl rfl)
theorem dX0_tell_61 : decode cX0_tell 61 = .ok (.aload_n 0, 1) := dk_42 (dk_at dksX0_tell_2 15 rfl rfl)
theorem dX0_tell_62 : decode cX0_tell 62 = .ok (.getfield 46, 3) := dk_180 0 46 (dk_at dksX0_tell_2 16 rfl rfl)
theorem dX0_tell_65 : decode cX0_tell 65 = .ok (.iload_n 1, 1) := dk_27 (dk_at dksX0_tell_2 19 rfl rfl)
theorem dX0_tell_66 : decode cX0_tell 66 = .ok (.new 176, 3) := dk_187 0 176 (dk_at dksX0_tell_2 20 rfl rfl)
theorem dX0_tell_69 : decode cX0_tell 69 = .ok (.dup, 1) := dk_89 (dk_at dksX0_tell_2 23 rfl rfl)
theorem dX0_tell_70 : decode cX0_tell 70 = .ok (.aload_n 0, 1) := dk_42 (dk_at dksX0_tell_3 0 rfl rfl)
theorem dX0_tell_71 : decode cX0_tell 71 = .ok (.getfield 50, 3) := dk_180 0 50 (dk_at dksX0_tell_3 1 rfl rfl)
theorem dX0_tell_74 : decode cX0_tell 74 = .ok (.iconst 0, 1) := dk_3 (dk_at dksX0_tell_3 4 rfl rfl)
theorem dX0_tell_75 : decode cX0_tell 75 = .ok (.aload_n 0, 1) := dk_42 (dk_at dksX0_tell_3 5 rfl rfl)
theorem dX0_tell_76 : decode cX0_tell 76 = .ok (.getfield 150, 3) := dk_180 0 150 (dk_at dksX0_tell_3 6 rfl rfl)
theorem dX0_tell_79 : decode cX0_tell 79 = .ok (.invokestatic 178, 3) := dk_184 0 178 (dk_at dksX0_tell_3 9 rfl rfl)
theorem dX0_tell_82 : decode cX0_tell 82 = .ok (.aload_n 0, 1) := dk_42 (dk_at dksX0_tell_3 12 rfl rfl)
theorem dX0_tell_83 : decode cX0_tell 83 = .ok (.getfield 40, 3) := dk_180 0 40 (dk_at dksX0_tell_3 13 rfl rfl)
theorem dX0_tell_86 : decode cX0_tell 86 = .ok (.iload_n 2, 1) := dk_28 (dk_at dksX0_tell_3 16 rfl rfl)
theorem dX0_tell_87 : decode cX0_tell 87 = .ok (.aaload, 1) := dk_50 (dk_at dksX0_tell_3 17 rfl rfl)
theorem dX0_tell_88 : decode cX0_tell 88 = .ok (.arraylength, 1) := dk_190 (dk_at dksX0_tell_3 18 rfl rfl)
theorem dX0_tell_89 : decode cX0_tell 89 = .ok (.invokespecial 182, 3) := dk_183 0 182 (dk_at dksX0_tell_3 19 rfl rfl)
theorem dX0_tell_92 : decode cX0_tell 92 = .ok (.aastore, 1) := dk_83 (dk_at dksX0_tell_3 22 rfl rfl)
theorem dX0_tell_93 : decode cX0_tell 93 = .ok (.aload_n 0, 1) := dk_42 (dk_at dksX0_tell_3 23 rfl rfl)
theorem dX0_tell_94 : decode cX0_tell 94 = .ok (.getfield 150, 3) := dk_180 0 150 (dk_at dksX0_tell_4 0 rfl rfl)
theorem dX0_tell_97 : decode cX0_tell 97 = .ok (.ireturn, 1) := dk_172 (dk_at dksX0_tell_4 3 rfl rfl)
abbrev cX0_cut : ByteArray := prog_1_method_32_code
def yX0_cut : MethodName := ⟨RX0, "cut", "([BII)[B"⟩
def dkwX0_cut_0 : List UInt8 := [28, 188, 8, 78, 42, 27, 45, 3, 28, 184, 0, 118, 45, 176]
abbrev dktX0_cut_0 : List UInt8 := dkwX0_cut_0 ++ []
theorem dksX0_cut_0 : cX0_cut.data.toList.drop 0 = dktX0_cut_0 := by decide +kernel
theorem dX0_cut_0 : decode cX0_cut 0 = .ok (.iload_n 2, 1) := dk_28 (dk_at dksX0_cut_0 0 rfl rfl)
theorem dX0_cut_1 : decode cX0_cut 1 = .ok (.newarray .byte, 2) := dk_188_8 (dk_at dksX0_cut_0 1 rfl rfl)
theorem dX0_cut_3 : decode cX0_cut 3 = .ok (.astore_n 3, 1) := dk_78 (dk_at dksX0_cut_0 3 rfl rfl)
theorem dX0_cut_4 : decode cX0_cut 4 = .ok (.aload_n 0, 1) := dk_42 (dk_at dksX0_cut_0 4 rfl rfl)
theorem dX0_cut_5 : decode cX0_cut 5 = .ok (.iload_n 1, 1) := dk_27 (dk_at dksX0_cut_0 5 rfl rfl)
theorem dX0_cut_6 : decode cX0_cut 6 = .ok (.aload_n 3, 1) := dk_45 (dk_at dksX0_cut_0 6 rfl rfl)
theorem dX0_cut_7 : decode cX0_cut 7 = .ok (.iconst 0, 1) := dk_3 (dk_at dksX0_cut_0 7 rfl rfl)
theorem dX0_cut_8 : decode cX0_cut 8 = .ok (.iload_n 2, 1) := dk_28 (dk_at dksX0_cut_0 8 rfl rfl)
theorem dX0_cut_9 : decode cX0_cut 9 = .ok (.invokestatic 118, 3) := dk_184 0 118 (dk_at dksX0_cut_0 9 rfl rfl)
theorem dX0_cut_12 : decode cX0_cut 12 = .ok (.aload_n 3, 1) := dk_45 (dk_at dksX0_cut_0 12 rfl rfl)
theorem dX0_cut_13 : decode cX0_cut 13 = .ok (.areturn, 1) := dk_176 (dk_at dksX0_cut_0 13 rfl rfl)
abbrev cX0_join : ByteArray := prog_1_method_33_code
def yX0_join : MethodName := ⟨RX0, "join", "(III)I"⟩
def dkwX0_join_4 : List UInt8 := [184, 0, 118, 42, 180, 0, 46, 27, 187, 0, 192, 89, 25, 6, 28, 183, 0, 194, 83, 21, 5, 172]
abbrev dktX0_join_4 : List UInt8 := dkwX0_join_4 ++ []
def dkwX0_join_3 : List UInt8 := [184, 0, 118, 42, 29, 182, 0, 188, 3, 25, 6, 42, 28, 182, 0, 188, 190, 42, 29, 182, 0, 188, 190]
abbrev dktX0_join_3 : List UInt8 := dkwX0_join_3 ++ dktX0_join_4
def dkwX0_join_2 : List UInt8 := [16, 254, 172, 21, 5, 188, 8, 58, 6, 42, 28, 182, 0, 188, 3, 25, 6, 3, 42, 28, 182, 0, 188, 190]
abbrev dktX0_join_2 : List UInt8 := dkwX0_join_2 ++ dktX0_join_3
def dkwX0_join_1 : List UInt8 := [172, 42, 28, 182, 0, 188, 190, 42, 29, 182, 0, 188, 190, 96, 54, 5, 21, 5, 16, 40, 164, 0, 6]
abbrev dktX0_join_1 : List UInt8 := dkwX0_join_1 ++ dktX0_join_2
def dkwX0_join_0 : List UInt8 := [27, 184, 0, 131, 154, 0, 5, 2, 172, 42, 28, 29, 182, 0, 185, 54, 4, 21, 4, 156, 0, 6, 21, 4]
abbrev dktX0_join_0 : List UInt8 := dkwX0_join_0 ++ dktX0_join_1
theorem dksX0_join_0 : cX0_join.data.toList.drop 0 = dktX0_join_0 := by decide +kernel
theorem dksX0_join_1 : cX0_join.data.toList.drop 24 = dktX0_join_1 := dk_seg dksX0_join_0 24 rfl rfl
theorem dksX0_join_2 : cX0_join.data.toList.drop 47 = dktX0_join_2 := dk_seg dksX0_join_1 23 rfl rfl
theorem dksX0_join_3 : cX0_join.data.toList.drop 71 = dktX0_join_3 := dk_seg dksX0_join_2 24 rfl rfl
theorem dksX0_join_4 : cX0_join.data.toList.drop 94 = dktX0_join_4 := dk_seg dksX0_join_3 23 rfl rfl
theorem dX0_join_0 : decode cX0_join 0 = .ok (.iload_n 1, 1) := dk_27 (dk_at dksX0_join_0 0 rfl rfl)
theorem dX0_join_1 : decode cX0_join 1 = .ok (.invokestatic 131, 3) := dk_184 0 131 (dk_at dksX0_join_0 1 rfl rfl)
theorem dX0_join_4 : decode cX0_join 4 = .ok (.ifCond .ne 5, 3) := dk_154 0 5 (dk_at dksX0_join_0 4 rfl rfl)
theorem dX0_join_7 : decode cX0_join 7 = .ok (.iconst (-1), 1) := dk_2 (dk_at dksX0_join_0 7 rfl rfl)
theorem dX0_join_8 : decode cX0_join 8 = .ok (.ireturn, 1) := dk_172 (dk_at dksX0_join_0 8 rfl rfl)
theorem dX0_join_9 : decode cX0_join 9 = .ok (.aload_n 0, 1) := dk_42 (dk_at dksX0_join_0 9 rfl rfl)
theorem dX0_join_10 : decode cX0_join 10 = .ok (.iload_n 2, 1) := dk_28 (dk_at dksX0_join_0 10 rfl rfl)
theorem dX0_join_11 : decode cX0_join 11 = .ok (.iload_n 3, 1) := dk_29 (dk_at dksX0_join_0 11 rfl rfl)
theorem dX0_join_12 : decode cX0_join 12 = .ok (.invokevirtual 185, 3) := dk_182 0 185 (dk_at dksX0_join_0 12 rfl rfl)
theorem dX0_join_15 : decode cX0_join 15 = .ok (.istore 4, 2) := dk_54 4 (dk_at dksX0_join_0 15 rfl rfl)
theorem dX0_join_17 : decode cX0_join 17 = .ok (.iload 4, 2) := dk_21 4 (dk_at dksX0_join_0 17 rfl rfl)
theorem dX0_join_19 : decode cX0_join 19 = .ok (.ifCond .ge 6, 3) := dk_156 0 6 (dk_at dksX0_join_0 19 rfl rfl)
theorem dX0_join_22 : decode cX0_join 22 = .ok (.iload 4, 2) := dk_21 4 (dk_at dksX0_join_0 22 rfl rfl)
theorem dX0_join_24 : decode cX0_join 24 = .ok (.ireturn, 1) := dk_172 (dk_at dksX0_join_1 0 rfl rfl)
theorem dX0_join_25 : decode cX0_join 25 = .ok (.aload_n 0, 1) := dk_42 (dk_at dksX0_join_1 1 rfl rfl)
theorem dX0_join_26 : decode cX0_join 26 = .ok (.iload_n 2, 1) := dk_28 (dk_at dksX0_join_1 2 rfl rfl)
theorem dX0_join_27 : decode cX0_join 27 = .ok (.invokevirtual 188, 3) := dk_182 0 188 (dk_at dksX0_join_1 3 rfl rfl)
theorem dX0_join_30 : decode cX0_join 30 = .ok (.arraylength, 1) := dk_190 (dk_at dksX0_join_1 6 rfl rfl)
theorem dX0_join_31 : decode cX0_join 31 = .ok (.aload_n 0, 1) := dk_42 (dk_at dksX0_join_1 7 rfl rfl)
theorem dX0_join_32 : decode cX0_join 32 = .ok (.iload_n 3, 1) := dk_29 (dk_at dksX0_join_1 8 rfl rfl)
theorem dX0_join_33 : decode cX0_join 33 = .ok (.invokevirtual 188, 3) := dk_182 0 188 (dk_at dksX0_join_1 9 rfl rfl)
theorem dX0_join_36 : decode cX0_join 36 = .ok (.arraylength, 1) := dk_190 (dk_at dksX0_join_1 12 rfl rfl)
theorem dX0_join_37 : decode cX0_join 37 = .ok (.iadd, 1) := dk_96 (dk_at dksX0_join_1 13 rfl rfl)
theorem dX0_join_38 : decode cX0_join 38 = .ok (.istore 5, 2) := dk_54 5 (dk_at dksX0_join_1 14 rfl rfl)
theorem dX0_join_40 : decode cX0_join 40 = .ok (.iload 5, 2) := dk_21 5 (dk_at dksX0_join_1 16 rfl rfl)
theorem dX0_join_42 : decode cX0_join 42 = .ok (.bipush 40, 2) := dk_16 40 (dk_at dksX0_join_1 18 rfl rfl)
theorem dX0_join_44 : decode cX0_join 44 = .ok (.if_icmp .le 6, 3) := dk_164 0 6 (dk_at dksX0_join_1 20 rfl rfl)
theorem dX0_join_47 : decode cX0_join 47 = .ok (.bipush (-2), 2) := dk_16 254 (dk_at dksX0_join_2 0 rfl rfl)
theorem dX0_join_49 : decode cX0_join 49 = .ok (.ireturn, 1) := dk_172 (dk_at dksX0_join_2 2 rfl rfl)
theorem dX0_join_50 : decode cX0_join 50 = .ok (.iload 5, 2) := dk_21 5 (dk_at dksX0_join_2 3 rfl rfl)
theorem dX0_join_52 : decode cX0_join 52 = .ok (.newarray .byte, 2) := dk_188_8 (dk_at dksX0_join_2 5 rfl rfl)
theorem dX0_join_54 : decode cX0_join 54 = .ok (.astore 6, 2) := dk_58 6 (dk_at dksX0_join_2 7 rfl rfl)
theorem dX0_join_56 : decode cX0_join 56 = .ok (.aload_n 0, 1) := dk_42 (dk_at dksX0_join_2 9 rfl rfl)
theorem dX0_join_57 : decode cX0_join 57 = .ok (.iload_n 2, 1) := dk_28 (dk_at dksX0_join_2 10 rfl rfl)
theorem dX0_join_58 : decode cX0_join 58 = .ok (.invokevirtual 188, 3) := dk_182 0 188 (dk_at dksX0_join_2 11 rfl rfl)
theorem dX0_join_61 : decode cX0_join 61 = .ok (.iconst 0, 1) := dk_3 (dk_at dksX0_join_2 14 rfl rfl)
theorem dX0_join_62 : decode cX0_join 62 = .ok (.aload 6, 2) := dk_25 6 (dk_at dksX0_join_2 15 rfl rfl)
theorem dX0_join_64 : decode cX0_join 64 = .ok (.iconst 0, 1) := dk_3 (dk_at dksX0_join_2 17 rfl rfl)
theorem dX0_join_65 : decode cX0_join 65 = .ok (.aload_n 0, 1) := dk_42 (dk_at dksX0_join_2 18 rfl rfl)
theorem dX0_join_66 : decode cX0_join 66 = .ok (.iload_n 2, 1) := dk_28 (dk_at dksX0_join_2 19 rfl rfl)
theorem dX0_join_67 : decode cX0_join 67 = .ok (.invokevirtual 188, 3) := dk_182 0 188 (dk_at dksX0_join_2 20 rfl rfl)
theorem dX0_join_70 : decode cX0_join 70 = .ok (.arraylength, 1) := dk_190 (dk_at dksX0_join_2 23 rfl rfl)
theorem dX0_join_71 : decode cX0_join 71 = .ok (.invokestatic 118, 3) := dk_184 0 118 (dk_at dksX0_join_3 0 rfl rfl)
theorem dX0_join_74 : decode cX0_join 74 = .ok (.aload_n 0, 1) := dk_42 (dk_at dksX0_join_3 3 rfl rfl)
theorem dX0_join_75 : decode cX0_join 75 = .ok (.iload_n 3, 1) := dk_29 (dk_at dksX0_join_3 4 rfl rfl)
theorem dX0_join_76 : decode cX0_join 76 = .ok (.invokevirtual 188, 3) := dk_182 0 188 (dk_at dksX0_join_3 5 rfl rfl)
theorem dX0_join_79 : decode cX0_join 79 = .ok (.iconst 0, 1) := dk_3 (dk_at dksX0_join_3 8 rfl rfl)
theorem dX0_join_80 : decode cX0_join 80 = .ok (.aload 6, 2) := dk_25 6 (dk_at dksX0_join_3 9 rfl rfl)
theorem dX0_join_82 : decode cX0_join 82 = .ok (.aload_n 0, 1) := dk_42 (dk_at dksX0_join_3 11 rfl rfl)
theorem dX0_join_83 : decode cX0_join 83 = .ok (.iload_n 2, 1) := dk_28 (dk_at dksX0_join_3 12 rfl rfl)
theorem dX0_join_84 : decode cX0_join 84 = .ok (.invokevirtual 188, 3) := dk_182 0 188 (dk_at dksX0_join_3 13 rfl rfl)
theorem dX0_join_87 : decode cX0_join 87 = .ok (.arraylength, 1) := dk_190 (dk_at dksX0_join_3 16 rfl rfl)
theorem dX0_join_88 : decode cX0_join 88 = .ok (.aload_n 0, 1) := dk_42 (dk_at dksX0_join_3 17 rfl rfl)
theorem dX0_join_89 : decode cX0_join 89 = .ok (.iload_n 3, 1) := dk_29 (dk_at dksX0_join_3 18 rfl rfl)
theorem dX0_join_90 : decode cX0_join 90 = .ok (.invokevirtual 188, 3) := dk_182 0 188 (dk_at dksX0_join_3 19 rfl rfl)
theorem dX0_join_93 : decode cX0_join 93 = .ok (.arraylength, 1) := dk_190 (dk_at dksX0_join_3 22 rfl rfl)
theorem dX0_join_94 : decode cX0_join 94 = .ok (.invokestatic 118, 3) := dk_184 0 118 (dk_at dksX0_join_4 0 rfl rfl)
theorem dX0_join_97 : decode cX0_join 97 = .ok (.aload_n 0, 1) := dk_42 (dk_at dksX0_join_4 3 rfl rfl)
theorem dX0_join_98 : decode cX0_join 98 = .ok (.getfield 46, 3) := dk_180 0 46 (dk_at dksX0_join_4 4 rfl rfl)
theorem dX0_join_101 : decode cX0_join 101 = .ok (.iload_n 1, 1) := dk_27 (dk_at dksX0_join_4 7 rfl rfl)
theorem dX0_join_102 : decode cX0_join 102 = .ok (.new 192, 3) := dk_187 0 192 (dk_at dksX0_join_4 8 rfl rfl)
theorem dX0_join_105 : decode cX0_join 105 = .ok (.dup, 1) := dk_89 (dk_at dksX0_join_4 11 rfl rfl)
theorem dX0_join_106 : decode cX0_join 106 = .ok (.aload 6, 2) := dk_25 6 (dk_at dksX0_join_4 12 rfl rfl)
theorem dX0_join_108 : decode cX0_join 108 = .ok (.iload_n 2, 1) := dk_28 (dk_at dksX0_join_4 14 rfl rfl)
theorem dX0_join_109 : decode cX0_join 109 = .ok (.invokespecial 194, 3) := dk_183 0 194 (dk_at dksX0_join_4 15 rfl rfl)
theorem dX0_join_112 : decode cX0_join 112 = .ok (.aastore, 1) := dk_83 (dk_at dksX0_join_4 18 rfl rfl)
theorem dX0_join_113 : decode cX0_join 113 = .ok (.iload 5, 2) := dk_21 5 (dk_at dksX0_join_4 19 rfl rfl)
theorem dX0_join_115 : decode cX0_join 115 = .ok (.ireturn, 1) := dk_172 (dk_at dksX0_join_4 21 rfl rfl)
abbrev cX0_askedTwo : ByteArray := prog_1_method_20_code
def yX0_askedTwo : MethodName := ⟨RX0, "askedTwo", "(II)I"⟩
def dkwX0_askedTwo_1 : List UInt8 := [198, 0, 12, 42, 180, 0, 46, 28, 50, 199, 0, 11, 42, 4, 182, 0, 103, 167, 0, 4, 3, 172]
abbrev dktX0_askedTwo_1 : List UInt8 := dkwX0_askedTwo_1 ++ []
def dkwX0_askedTwo_0 : List UInt8 := [27, 184, 0, 131, 153, 0, 10, 28, 184, 0, 131, 154, 0, 5, 2, 172, 42, 180, 0, 46, 27, 50]
abbrev dktX0_askedTwo_0 : List UInt8 := dkwX0_askedTwo_0 ++ dktX0_askedTwo_1
theorem dksX0_askedTwo_0 : cX0_askedTwo.data.toList.drop 0 = dktX0_askedTwo_0 := by decide +kernel
theorem dksX0_askedTwo_1 : cX0_askedTwo.data.toList.drop 22 = dktX0_askedTwo_1 := dk_seg dksX0_askedTwo_0 22 rfl rfl
theorem dX0_askedTwo_0 : decode cX0_askedTwo 0 = .ok (.iload_n 1, 1) := dk_27 (dk_at dksX0_askedTwo_0 0 rfl rfl)
theorem dX0_askedTwo_1 : decode cX0_askedTwo 1 = .ok (.invokestatic 131, 3) := dk_184 0 131 (dk_at dksX0_askedTwo_0 1 rfl rfl)
theorem dX0_askedTwo_4 : decode cX0_askedTwo 4 = .ok (.ifCond .eq 10, 3) := dk_153 0 10 (dk_at dksX0_askedTwo_0 4 rfl rfl)
theorem dX0_askedTwo_7 : decode cX0_askedTwo 7 = .ok (.iload_n 2, 1) := dk_28 (dk_at dksX0_askedTwo_0 7 rfl rfl)
theorem dX0_askedTwo_8 : decode cX0_askedTwo 8 = .ok (.invokestatic 131, 3) := dk_184 0 131 (dk_at dksX0_askedTwo_0 8 rfl rfl)
theorem dX0_askedTwo_11 : decode cX0_askedTwo 11 = .ok (.ifCond .ne 5, 3) := dk_154 0 5 (dk_at dksX0_askedTwo_0 11 rfl rfl)
theorem dX0_askedTwo_14 : decode cX0_askedTwo 14 = .ok (.iconst (-1), 1) := dk_2 (dk_at dksX0_askedTwo_0 14 rfl rfl)
theorem dX0_askedTwo_15 : decode cX0_askedTwo 15 = .ok (.ireturn, 1) := dk_172 (dk_at dksX0_askedTwo_0 15 rfl rfl)
theorem dX0_askedTwo_16 : decode cX0_askedTwo 16 = .ok (.aload_n 0, 1) := dk_42 (dk_at dksX0_askedTwo_0 16 rfl rfl)
theorem dX0_askedTwo_17 : decode cX0_askedTwo 17 = .ok (.getfield 46, 3) := dk_180 0 46 (dk_at dksX0_askedTwo_0 17 rfl rfl)
theorem dX0_askedTwo_20 : decode cX0_askedTwo 20 = .ok (.iload_n 1, 1) := dk_27 (dk_at dksX0_askedTwo_0 20 rfl rfl)
theorem dX0_askedTwo_21 : decode cX0_askedTwo 21 = .ok (.aaload, 1) := dk_50 (dk_at dksX0_askedTwo_0 21 rfl rfl)
theorem dX0_askedTwo_22 : decode cX0_askedTwo 22 = .ok (.ifnull 12, 3) := dk_198 0 12 (dk_at dksX0_askedTwo_1 0 rfl rfl)
theorem dX0_askedTwo_25 : decode cX0_askedTwo 25 = .ok (.aload_n 0, 1) := dk_42 (dk_at dksX0_askedTwo_1 3 rfl rfl)
theorem dX0_askedTwo_26 : decode cX0_askedTwo 26 = .ok (.getfield 46, 3) := dk_180 0 46 (dk_at dksX0_askedTwo_1 4 rfl rfl)
theorem dX0_askedTwo_29 : decode cX0_askedTwo 29 = .ok (.iload_n 2, 1) := dk_28 (dk_at dksX0_askedTwo_1 7 rfl rfl)
theorem dX0_askedTwo_30 : decode cX0_askedTwo 30 = .ok (.aaload, 1) := dk_50 (dk_at dksX0_askedTwo_1 8 rfl rfl)
theorem dX0_askedTwo_31 : decode cX0_askedTwo 31 = .ok (.ifnonnull 11, 3) := dk_199 0 11 (dk_at dksX0_askedTwo_1 9 rfl rfl)
theorem dX0_askedTwo_34 : decode cX0_askedTwo 34 = .ok (.aload_n 0, 1) := dk_42 (dk_at dksX0_askedTwo_1 12 rfl rfl)
theorem dX0_askedTwo_35 : decode cX0_askedTwo 35 = .ok (.iconst 1, 1) := dk_4 (dk_at dksX0_askedTwo_1 13 rfl rfl)
theorem dX0_askedTwo_36 : decode cX0_askedTwo 36 = .ok (.invokevirtual 103, 3) := dk_182 0 103 (dk_at dksX0_askedTwo_1 14 rfl rfl)
theorem dX0_askedTwo_39 : decode cX0_askedTwo 39 = .ok (.goto 4, 3) := dk_167 0 4 (dk_at dksX0_askedTwo_1 17 rfl rfl)
theorem dX0_askedTwo_42 : decode cX0_askedTwo 42 = .ok (.iconst 0, 1) := dk_3 (dk_at dksX0_askedTwo_1 20 rfl rfl)
theorem dX0_askedTwo_43 : decode cX0_askedTwo 43 = .ok (.ireturn, 1) := dk_172 (dk_at dksX0_askedTwo_1 21 rfl rfl)
abbrev cX0_of : ByteArray := prog_1_method_21_code
def yX0_of : MethodName := ⟨RX0, "of", "(I)[B"⟩
def dkwX0_of_0 : List UInt8 := [42, 180, 0, 46, 27, 50, 180, 0, 134, 176]
abbrev dktX0_of_0 : List UInt8 := dkwX0_of_0 ++ []
theorem dksX0_of_0 : cX0_of.data.toList.drop 0 = dktX0_of_0 := by decide +kernel
theorem dX0_of_0 : decode cX0_of 0 = .ok (.aload_n 0, 1) := dk_42 (dk_at dksX0_of_0 0 rfl rfl)
theorem dX0_of_1 : decode cX0_of 1 = .ok (.getfield 46, 3) := dk_180 0 46 (dk_at dksX0_of_0 1 rfl rfl)
theorem dX0_of_4 : decode cX0_of 4 = .ok (.iload_n 1, 1) := dk_27 (dk_at dksX0_of_0 4 rfl rfl)
theorem dX0_of_5 : decode cX0_of 5 = .ok (.aaload, 1) := dk_50 (dk_at dksX0_of_0 5 rfl rfl)
theorem dX0_of_6 : decode cX0_of 6 = .ok (.getfield 134, 3) := dk_180 0 134 (dk_at dksX0_of_0 6 rfl rfl)
theorem dX0_of_9 : decode cX0_of 9 = .ok (.areturn, 1) := dk_176 (dk_at dksX0_of_0 9 rfl rfl)
abbrev cX0_part : ByteArray := prog_1_method_34_code
def yX0_part : MethodName := ⟨RX0, "part", "(IIII)I"⟩
def dkwX0_part_4 : List UInt8 := [184, 0, 178, 28, 183, 0, 194, 83, 21, 4, 172]
abbrev dktX0_part_4 : List UInt8 := dkwX0_part_4 ++ []
def dkwX0_part_3 : List UInt8 := [42, 5, 182, 0, 103, 172, 42, 180, 0, 46, 27, 187, 0, 192, 89, 42, 28, 182, 0, 188, 29, 21, 4]
abbrev dktX0_part_3 : List UInt8 := dkwX0_part_3 ++ dktX0_part_4
def dkwX0_part_2 : List UInt8 := [21, 4, 42, 28, 182, 0, 188, 190, 163, 0, 16, 29, 42, 28, 182, 0, 188, 190, 21, 4, 100, 164, 0, 9]
abbrev dktX0_part_2 : List UInt8 := dkwX0_part_2 ++ dktX0_part_3
def dkwX0_part_1 : List UInt8 := [182, 0, 103, 172, 42, 180, 0, 46, 28, 50, 199, 0, 9, 42, 4, 182, 0, 103, 172, 29, 155, 0, 27]
abbrev dktX0_part_1 : List UInt8 := dkwX0_part_1 ++ dktX0_part_2
def dkwX0_part_0 : List UInt8 := [27, 184, 0, 131, 153, 0, 10, 28, 184, 0, 131, 154, 0, 5, 2, 172, 21, 4, 156, 0, 9, 42, 8]
abbrev dktX0_part_0 : List UInt8 := dkwX0_part_0 ++ dktX0_part_1
theorem dksX0_part_0 : cX0_part.data.toList.drop 0 = dktX0_part_0 := by decide +kernel
theorem dksX0_part_1 : cX0_part.data.toList.drop 23 = dktX0_part_1 := dk_seg dksX0_part_0 23 rfl rfl
theorem dksX0_part_2 : cX0_part.data.toList.drop 46 = dktX0_part_2 := dk_seg dksX0_part_1 23 rfl rfl
theorem dksX0_part_3 : cX0_part.data.toList.drop 70 = dktX0_part_3 := dk_seg dksX0_part_2 24 rfl rfl
theorem dksX0_part_4 : cX0_part.data.toList.drop 93 = dktX0_part_4 := dk_seg dksX0_part_3 23 rfl rfl
theorem dX0_part_0 : decode cX0_part 0 = .ok (.iload_n 1, 1) := dk_27 (dk_at dksX0_part_0 0 rfl rfl)
theorem dX0_part_1 : decode cX0_part 1 = .ok (.invokestatic 131, 3) := dk_184 0 131 (dk_at dksX0_part_0 1 rfl rfl)
theorem dX0_part_4 : decode cX0_part 4 = .ok (.ifCond .eq 10, 3) := dk_153 0 10 (dk_at dksX0_part_0 4 rfl rfl)
theorem dX0_part_7 : decode cX0_part 7 = .ok (.iload_n 2, 1) := dk_28 (dk_at dksX0_part_0 7 rfl rfl)
theorem dX0_part_8 : decode cX0_part 8 = .ok (.invokestatic 131, 3) := dk_184 0 131 (dk_at dksX0_part_0 8 rfl rfl)
theorem dX0_part_11 : decode cX0_part 11 = .ok (.ifCond .ne 5, 3) := dk_154 0 5 (dk_at dksX0_part_0 11 rfl rfl)
theorem dX0_part_14 : decode cX0_part 14 = .ok (.iconst (-1), 1) := dk_2 (dk_at dksX0_part_0 14 rfl rfl)
theorem dX0_part_15 : decode cX0_part 15 = .ok (.ireturn, 1) := dk_172 (dk_at dksX0_part_0 15 rfl rfl)
theorem dX0_part_16 : decode cX0_part 16 = .ok (.iload 4, 2) := dk_21 4 (dk_at dksX0_part_0 16 rfl rfl)
theorem dX0_part_18 : decode cX0_part 18 = .ok (.ifCond .ge 9, 3) := dk_156 0 9 (dk_at dksX0_part_0 18 rfl rfl)
theorem dX0_part_21 : decode cX0_part 21 = .ok (.aload_n 0, 1) := dk_42 (dk_at dksX0_part_0 21 rfl rfl)
theorem dX0_part_22 : decode cX0_part 22 = .ok (.iconst 5, 1) := dk_8 (dk_at dksX0_part_0 22 rfl rfl)
theorem dX0_part_23 : decode cX0_part 23 = .ok (.invokevirtual 103, 3) := dk_182 0 103 (dk_at dksX0_part_1 0 rfl rfl)
theorem dX0_part_26 : decode cX0_part 26 = .ok (.ireturn, 1) := dk_172 (dk_at dksX0_part_1 3 rfl rfl)
theorem dX0_part_27 : decode cX0_part 27 = .ok (.aload_n 0, 1) := dk_42 (dk_at dksX0_part_1 4 rfl rfl)
theorem dX0_part_28 : decode cX0_part 28 = .ok (.getfield 46, 3) := dk_180 0 46 (dk_at dksX0_part_1 5 rfl rfl)
theorem dX0_part_31 : decode cX0_part 31 = .ok (.iload_n 2, 1) := dk_28 (dk_at dksX0_part_1 8 rfl rfl)
theorem dX0_part_32 : decode cX0_part 32 = .ok (.aaload, 1) := dk_50 (dk_at dksX0_part_1 9 rfl rfl)
theorem dX0_part_33 : decode cX0_part 33 = .ok (.ifnonnull 9, 3) := dk_199 0 9 (dk_at dksX0_part_1 10 rfl rfl)
theorem dX0_part_36 : decode cX0_part 36 = .ok (.aload_n 0, 1) := dk_42 (dk_at dksX0_part_1 13 rfl rfl)
theorem dX0_part_37 : decode cX0_part 37 = .ok (.iconst 1, 1) := dk_4 (dk_at dksX0_part_1 14 rfl rfl)
theorem dX0_part_38 : decode cX0_part 38 = .ok (.invokevirtual 103, 3) := dk_182 0 103 (dk_at dksX0_part_1 15 rfl rfl)
theorem dX0_part_41 : decode cX0_part 41 = .ok (.ireturn, 1) := dk_172 (dk_at dksX0_part_1 18 rfl rfl)
theorem dX0_part_42 : decode cX0_part 42 = .ok (.iload_n 3, 1) := dk_29 (dk_at dksX0_part_1 19 rfl rfl)
theorem dX0_part_43 : decode cX0_part 43 = .ok (.ifCond .lt 27, 3) := dk_155 0 27 (dk_at dksX0_part_1 20 rfl rfl)
theorem dX0_part_46 : decode cX0_part 46 = .ok (.iload 4, 2) := dk_21 4 (dk_at dksX0_part_2 0 rfl rfl)
theorem dX0_part_48 : decode cX0_part 48 = .ok (.aload_n 0, 1) := dk_42 (dk_at dksX0_part_2 2 rfl rfl)
theorem dX0_part_49 : decode cX0_part 49 = .ok (.iload_n 2, 1) := dk_28 (dk_at dksX0_part_2 3 rfl rfl)
theorem dX0_part_50 : decode cX0_part 50 = .ok (.invokevirtual 188, 3) := dk_182 0 188 (dk_at dksX0_part_2 4 rfl rfl)
theorem dX0_part_53 : decode cX0_part 53 = .ok (.arraylength, 1) := dk_190 (dk_at dksX0_part_2 7 rfl rfl)
theorem dX0_part_54 : decode cX0_part 54 = .ok (.if_icmp .gt 16, 3) := dk_163 0 16 (dk_at dksX0_part_2 8 rfl rfl)
theorem dX0_part_57 : decode cX0_part 57 = .ok (.iload_n 3, 1) := dk_29 (dk_at dksX0_part_2 11 rfl rfl)
theorem dX0_part_58 : decode cX0_part 58 = .ok (.aload_n 0, 1) := dk_42 (dk_at dksX0_part_2 12 rfl rfl)
theorem dX0_part_59 : decode cX0_part 59 = .ok (.iload_n 2, 1) := dk_28 (dk_at dksX0_part_2 13 rfl rfl)
theorem dX0_part_60 : decode cX0_part 60 = .ok (.invokevirtual 188, 3) := dk_182 0 188 (dk_at dksX0_part_2 14 rfl rfl)
theorem dX0_part_63 : decode cX0_part 63 = .ok (.arraylength, 1) := dk_190 (dk_at dksX0_part_2 17 rfl rfl)
theorem dX0_part_64 : decode cX0_part 64 = .ok (.iload 4, 2) := dk_21 4 (dk_at dksX0_part_2 18 rfl rfl)
theorem dX0_part_66 : decode cX0_part 66 = .ok (.isub, 1) := dk_100 (dk_at dksX0_part_2 20 rfl rfl)
theorem dX0_part_67 : decode cX0_part 67 = .ok (.if_icmp .le 9, 3) := dk_164 0 9 (dk_at dksX0_part_2 21 rfl rfl)
theorem dX0_part_70 : decode cX0_part 70 = .ok (.aload_n 0, 1) := dk_42 (dk_at dksX0_part_3 0 rfl rfl)
theorem dX0_part_71 : decode cX0_part 71 = .ok (.iconst 2, 1) := dk_5 (dk_at dksX0_part_3 1 rfl rfl)
theorem dX0_part_72 : decode cX0_part 72 = .ok (.invokevirtual 103, 3) := dk_182 0 103 (dk_at dksX0_part_3 2 rfl rfl)
theorem dX0_part_75 : decode cX0_part 75 = .ok (.ireturn, 1) := dk_172 (dk_at dksX0_part_3 5 rfl rfl)
theorem dX0_part_76 : decode cX0_part 76 = .ok (.aload_n 0, 1) := dk_42 (dk_at dksX0_part_3 6 rfl rfl)
theorem dX0_part_77 : decode cX0_part 77 = .ok (.getfield 46, 3) := dk_180 0 46 (dk_at dksX0_part_3 7 rfl rfl)
theorem dX0_part_80 : decode cX0_part 80 = .ok (.iload_n 1, 1) := dk_27 (dk_at dksX0_part_3 10 rfl rfl)
theorem dX0_part_81 : decode cX0_part 81 = .ok (.new 192, 3) := dk_187 0 192 (dk_at dksX0_part_3 11 rfl rfl)
theorem dX0_part_84 : decode cX0_part 84 = .ok (.dup, 1) := dk_89 (dk_at dksX0_part_3 14 rfl rfl)
theorem dX0_part_85 : decode cX0_part 85 = .ok (.aload_n 0, 1) := dk_42 (dk_at dksX0_part_3 15 rfl rfl)
theorem dX0_part_86 : decode cX0_part 86 = .ok (.iload_n 2, 1) := dk_28 (dk_at dksX0_part_3 16 rfl rfl)
theorem dX0_part_87 : decode cX0_part 87 = .ok (.invokevirtual 188, 3) := dk_182 0 188 (dk_at dksX0_part_3 17 rfl rfl)
theorem dX0_part_90 : decode cX0_part 90 = .ok (.iload_n 3, 1) := dk_29 (dk_at dksX0_part_3 20 rfl rfl)
theorem dX0_part_91 : decode cX0_part 91 = .ok (.iload 4, 2) := dk_21 4 (dk_at dksX0_part_3 21 rfl rfl)
theorem dX0_part_93 : decode cX0_part 93 = .ok (.invokestatic 178, 3) := dk_184 0 178 (dk_at dksX0_part_4 0 rfl rfl)
theorem dX0_part_96 : decode cX0_part 96 = .ok (.iload_n 2, 1) := dk_28 (dk_at dksX0_part_4 3 rfl rfl)
theorem dX0_part_97 : decode cX0_part 97 = .ok (.invokespecial 194, 3) := dk_183 0 194 (dk_at dksX0_part_4 4 rfl rfl)
theorem dX0_part_100 : decode cX0_part 100 = .ok (.aastore, 1) := dk_83 (dk_at dksX0_part_4 7 rfl rfl)
theorem dX0_part_101 : decode cX0_part 101 = .ok (.iload 4, 2) := dk_21 4 (dk_at dksX0_part_4 8 rfl rfl)
theorem dX0_part_103 : decode cX0_part 103 = .ok (.ireturn, 1) := dk_172 (dk_at dksX0_part_4 10 rfl rfl)
abbrev cX0_turn : ByteArray := prog_1_method_35_code
def yX0_turn : MethodName := ⟨RX0, "turn", "(III)I"⟩
def dkwX0_turn_5 : List UInt8 := [25, 6, 190, 172]
abbrev dktX0_turn_5 : List UInt8 := dkwX0_turn_5 ++ []
def dkwX0_turn_4 : List UInt8 := [132, 7, 1, 167, 255, 209, 42, 180, 0, 46, 27, 187, 0, 198, 89, 25, 6, 28, 29, 183, 0, 200, 83]
abbrev dktX0_turn_4 : List UInt8 := dkwX0_turn_4 ++ dktX0_turn_5
def dkwX0_turn_3 : List UInt8 := [4, 100, 21, 7, 100, 51, 167, 0, 16, 42, 180, 0, 30, 4, 100, 25, 5, 21, 7, 51, 100, 145, 84]
abbrev dktX0_turn_3 : List UInt8 := dkwX0_turn_3 ++ dktX0_turn_4
def dkwX0_turn_2 : List UInt8 := [3, 54, 7, 21, 7, 25, 5, 190, 162, 0, 45, 25, 6, 21, 7, 29, 154, 0, 17, 25, 5, 25, 5, 190]
abbrev dktX0_turn_2 : List UInt8 := dkwX0_turn_2 ++ dktX0_turn_3
def dkwX0_turn_1 : List UInt8 := [54, 4, 21, 4, 156, 0, 6, 21, 4, 172, 42, 28, 182, 0, 188, 58, 5, 25, 5, 190, 188, 8, 58, 6]
abbrev dktX0_turn_1 : List UInt8 := dkwX0_turn_1 ++ dktX0_turn_2
def dkwX0_turn_0 : List UInt8 := [27, 184, 0, 131, 153, 0, 12, 29, 3, 4, 184, 0, 93, 154, 0, 5, 2, 172, 42, 28, 182, 0, 195]
abbrev dktX0_turn_0 : List UInt8 := dkwX0_turn_0 ++ dktX0_turn_1
theorem dksX0_turn_0 : cX0_turn.data.toList.drop 0 = dktX0_turn_0 := by decide +kernel
theorem dksX0_turn_1 : cX0_turn.data.toList.drop 23 = dktX0_turn_1 := dk_seg dksX0_turn_0 23 rfl rfl
theorem dksX0_turn_2 : cX0_turn.data.toList.drop 47 = dktX0_turn_2 := dk_seg dksX0_turn_1 24 rfl rfl
theorem dksX0_turn_3 : cX0_turn.data.toList.drop 71 = dktX0_turn_3 := dk_seg dksX0_turn_2 24 rfl rfl
theorem dksX0_turn_4 : cX0_turn.data.toList.drop 94 = dktX0_turn_4 := dk_seg dksX0_turn_3 23 rfl rfl
theorem dksX0_turn_5 : cX0_turn.data.toList.drop 117 = dktX0_turn_5 := dk_seg dksX0_turn_4 23 rfl rfl
theorem dX0_turn_0 : decode cX0_turn 0 = .ok (.iload_n 1, 1) := dk_27 (dk_at dksX0_turn_0 0 rfl rfl)
theorem dX0_turn_1 : decode cX0_turn 1 = .ok (.invokestatic 131, 3) := dk_184 0 131 (dk_at dksX0_turn_0 1 rfl rfl)
theorem dX0_turn_4 : decode cX0_turn 4 = .ok (.ifCond .eq 12, 3) := dk_153 0 12 (dk_at dksX0_turn_0 4 rfl rfl)
theorem dX0_turn_7 : decode cX0_turn 7 = .ok (.iload_n 3, 1) := dk_29 (dk_at dksX0_turn_0 7 rfl rfl)
theorem dX0_turn_8 : decode cX0_turn 8 = .ok (.iconst 0, 1) := dk_3 (dk_at dksX0_turn_0 8 rfl rfl)
theorem dX0_turn_9 : decode cX0_turn 9 = .ok (.iconst 1, 1) := dk_4 (dk_at dksX0_turn_0 9 rfl rfl)
theorem dX0_turn_10 : decode cX0_turn 10 = .ok (.invokestatic 93, 3) := dk_184 0 93 (dk_at dksX0_turn_0 10 rfl rfl)
theorem dX0_turn_13 : decode cX0_turn 13 = .ok (.ifCond .ne 5, 3) := dk_154 0 5 (dk_at dksX0_turn_0 13 rfl rfl)
theorem dX0_turn_16 : decode cX0_turn 16 = .ok (.iconst (-1), 1) := dk_2 (dk_at dksX0_turn_0 16 rfl rfl)
theorem dX0_turn_17 : decode cX0_turn 17 = .ok (.ireturn, 1) := dk_172 (dk_at dksX0_turn_0 17 rfl rfl)
theorem dX0_turn_18 : decode cX0_turn 18 = .ok (.aload_n 0, 1) := dk_42 (dk_at dksX0_turn_0 18 rfl rfl)
theorem dX0_turn_19 : decode cX0_turn 19 = .ok (.iload_n 2, 1) := dk_28 (dk_at dksX0_turn_0 19 rfl rfl)
theorem dX0_turn_20 : decode cX0_turn 20 = .ok (.invokevirtual 195, 3) := dk_182 0 195 (dk_at dksX0_turn_0 20 rfl rfl)
theorem dX0_turn_23 : decode cX0_turn 23 = .ok (.istore 4, 2) := dk_54 4 (dk_at dksX0_turn_1 0 rfl rfl)
theorem dX0_turn_25 : decode cX0_turn 25 = .ok (.iload 4, 2) := dk_21 4 (dk_at dksX0_turn_1 2 rfl rfl)
theorem dX0_turn_27 : decode cX0_turn 27 = .ok (.ifCond .ge 6, 3) := dk_156 0 6 (dk_at dksX0_turn_1 4 rfl rfl)
theorem dX0_turn_30 : decode cX0_turn 30 = .ok (.iload 4, 2) := dk_21 4 (dk_at dksX0_turn_1 7 rfl rfl)
theorem dX0_turn_32 : decode cX0_turn 32 = .ok (.ireturn, 1) := dk_172 (dk_at dksX0_turn_1 9 rfl rfl)
theorem dX0_turn_33 : decode cX0_turn 33 = .ok (.aload_n 0, 1) := dk_42 (dk_at dksX0_turn_1 10 rfl rfl)
theorem dX0_turn_34 : decode cX0_turn 34 = .ok (.iload_n 2, 1) := dk_28 (dk_at dksX0_turn_1 11 rfl rfl)
theorem dX0_turn_35 : decode cX0_turn 35 = .ok (.invokevirtual 188, 3) := dk_182 0 188 (dk_at dksX0_turn_1 12 rfl rfl)
theorem dX0_turn_38 : decode cX0_turn 38 = .ok (.astore 5, 2) := dk_58 5 (dk_at dksX0_turn_1 15 rfl rfl)
theorem dX0_turn_40 : decode cX0_turn 40 = .ok (.aload 5, 2) := dk_25 5 (dk_at dksX0_turn_1 17 rfl rfl)
theorem dX0_turn_42 : decode cX0_turn 42 = .ok (.arraylength, 1) := dk_190 (dk_at dksX0_turn_1 19 rfl rfl)
theorem dX0_turn_43 : decode cX0_turn 43 = .ok (.newarray .byte, 2) := dk_188_8 (dk_at dksX0_turn_1 20 rfl rfl)
theorem dX0_turn_45 : decode cX0_turn 45 = .ok (.astore 6, 2) := dk_58 6 (dk_at dksX0_turn_1 22 rfl rfl)
theorem dX0_turn_47 : decode cX0_turn 47 = .ok (.iconst 0, 1) := dk_3 (dk_at dksX0_turn_2 0 rfl rfl)
theorem dX0_turn_48 : decode cX0_turn 48 = .ok (.istore 7, 2) := dk_54 7 (dk_at dksX0_turn_2 1 rfl rfl)
theorem dX0_turn_50 : decode cX0_turn 50 = .ok (.iload 7, 2) := dk_21 7 (dk_at dksX0_turn_2 3 rfl rfl)
theorem dX0_turn_52 : decode cX0_turn 52 = .ok (.aload 5, 2) := dk_25 5 (dk_at dksX0_turn_2 5 rfl rfl)
theorem dX0_turn_54 : decode cX0_turn 54 = .ok (.arraylength, 1) := dk_190 (dk_at dksX0_turn_2 7 rfl rfl)
theorem dX0_turn_55 : decode cX0_turn 55 = .ok (.if_icmp .ge 45, 3) := dk_162 0 45 (dk_at dksX0_turn_2 8 rfl rfl)
theorem dX0_turn_58 : decode cX0_turn 58 = .ok (.aload 6, 2) := dk_25 6 (dk_at dksX0_turn_2 11 rfl rfl)
theorem dX0_turn_60 : decode cX0_turn 60 = .ok (.iload 7, 2) := dk_21 7 (dk_at dksX0_turn_2 13 rfl rfl)
theorem dX0_turn_62 : decode cX0_turn 62 = .ok (.iload_n 3, 1) := dk_29 (dk_at dksX0_turn_2 15 rfl rfl)
theorem dX0_turn_63 : decode cX0_turn 63 = .ok (.ifCond .ne 17, 3) := dk_154 0 17 (dk_at dksX0_turn_2 16 rfl rfl)
theorem dX0_turn_66 : decode cX0_turn 66 = .ok (.aload 5, 2) := dk_25 5 (dk_at dksX0_turn_2 19 rfl rfl)
theorem dX0_turn_68 : decode cX0_turn 68 = .ok (.aload 5, 2) := dk_25 5 (dk_at dksX0_turn_2 21 rfl rfl)
theorem dX0_turn_70 : decode cX0_turn 70 = .ok (.arraylength, 1) := dk_190 (dk_at dksX0_turn_2 23 rfl rfl)
theorem dX0_turn_71 : decode cX0_turn 71 = .ok (.iconst 1, 1) := dk_4 (dk_at dksX0_turn_3 0 rfl rfl)
theorem dX0_turn_72 : decode cX0_turn 72 = .ok (.isub, 1) := dk_100 (dk_at dksX0_turn_3 1 rfl rfl)
theorem dX0_turn_73 : decode cX0_turn 73 = .ok (.iload 7, 2) := dk_21 7 (dk_at dksX0_turn_3 2 rfl rfl)
theorem dX0_turn_75 : decode cX0_turn 75 = .ok (.isub, 1) := dk_100 (dk_at dksX0_turn_3 4 rfl rfl)
theorem dX0_turn_76 : decode cX0_turn 76 = .ok (.baload, 1) := dk_51 (dk_at dksX0_turn_3 5 rfl rfl)
theorem dX0_turn_77 : decode cX0_turn 77 = .ok (.goto 16, 3) := dk_167 0 16 (dk_at dksX0_turn_3 6 rfl rfl)
theorem dX0_turn_80 : decode cX0_turn 80 = .ok (.aload_n 0, 1) := dk_42 (dk_at dksX0_turn_3 9 rfl rfl)
theorem dX0_turn_81 : decode cX0_turn 81 = .ok (.getfield 30, 3) := dk_180 0 30 (dk_at dksX0_turn_3 10 rfl rfl)
theorem dX0_turn_84 : decode cX0_turn 84 = .ok (.iconst 1, 1) := dk_4 (dk_at dksX0_turn_3 13 rfl rfl)
theorem dX0_turn_85 : decode cX0_turn 85 = .ok (.isub, 1) := dk_100 (dk_at dksX0_turn_3 14 rfl rfl)
theorem dX0_turn_86 : decode cX0_turn 86 = .ok (.aload 5, 2) := dk_25 5 (dk_at dksX0_turn_3 15 rfl rfl)
theorem dX0_turn_88 : decode cX0_turn 88 = .ok (.iload 7, 2) := dk_21 7 (dk_at dksX0_turn_3 17 rfl rfl)
theorem dX0_turn_90 : decode cX0_turn 90 = .ok (.baload, 1) := dk_51 (dk_at dksX0_turn_3 19 rfl rfl)
theorem dX0_turn_91 : decode cX0_turn 91 = .ok (.isub, 1) := dk_100 (dk_at dksX0_turn_3 20 rfl rfl)
theorem dX0_turn_92 : decode cX0_turn 92 = .ok (.i2b, 1) := dk_145 (dk_at dksX0_turn_3 21 rfl rfl)
theorem dX0_turn_93 : decode cX0_turn 93 = .ok (.bastore, 1) := dk_84 (dk_at dksX0_turn_3 22 rfl rfl)
theorem dX0_turn_94 : decode cX0_turn 94 = .ok (.iinc 7 1, 3) := dk_132 7 1 (dk_at dksX0_turn_4 0 rfl rfl)
theorem dX0_turn_97 : decode cX0_turn 97 = .ok (.goto (-47), 3) := dk_167 255 209 (dk_at dksX0_turn_4 3 rfl rfl)
theorem dX0_turn_100 : decode cX0_turn 100 = .ok (.aload_n 0, 1) := dk_42 (dk_at dksX0_turn_4 6 rfl rfl)
theorem dX0_turn_101 : decode cX0_turn 101 = .ok (.getfield 46, 3) := dk_180 0 46 (dk_at dksX0_turn_4 7 rfl rfl)
theorem dX0_turn_104 : decode cX0_turn 104 = .ok (.iload_n 1, 1) := dk_27 (dk_at dksX0_turn_4 10 rfl rfl)
theorem dX0_turn_105 : decode cX0_turn 105 = .ok (.new 198, 3) := dk_187 0 198 (dk_at dksX0_turn_4 11 rfl rfl)
theorem dX0_turn_108 : decode cX0_turn 108 = .ok (.dup, 1) := dk_89 (dk_at dksX0_turn_4 14 rfl rfl)
theorem dX0_turn_109 : decode cX0_turn 109 = .ok (.aload 6, 2) := dk_25 6 (dk_at dksX0_turn_4 15 rfl rfl)
theorem dX0_turn_111 : decode cX0_turn 111 = .ok (.iload_n 2, 1) := dk_28 (dk_at dksX0_turn_4 17 rfl rfl)
theorem dX0_turn_112 : decode cX0_turn 112 = .ok (.iload_n 3, 1) := dk_29 (dk_at dksX0_turn_4 18 rfl rfl)
theorem dX0_turn_113 : decode cX0_turn 113 = .ok (.invokespecial 200, 3) := dk_183 0 200 (dk_at dksX0_turn_4 19 rfl rfl)
theorem dX0_turn_116 : decode cX0_turn 116 = .ok (.aastore, 1) := dk_83 (dk_at dksX0_turn_4 22 rfl rfl)
theorem dX0_turn_117 : decode cX0_turn 117 = .ok (.aload 6, 2) := dk_25 6 (dk_at dksX0_turn_5 0 rfl rfl)
theorem dX0_turn_119 : decode cX0_turn 119 = .ok (.arraylength, 1) := dk_190 (dk_at dksX0_turn_5 2 rfl rfl)
theorem dX0_turn_120 : decode cX0_turn 120 = .ok (.ireturn, 1) := dk_172 (dk_at dksX0_turn_5 3 rfl rfl)
abbrev cX0_askedWord : ByteArray := prog_1_method_19_code
def yX0_askedWord : MethodName := ⟨RX0, "askedWord", "(I)I"⟩
def dkwX0_askedWord_1 : List UInt8 := [182, 0, 103, 167, 0, 4, 3, 172]
abbrev dktX0_askedWord_1 : List UInt8 := dkwX0_askedWord_1 ++ []
def dkwX0_askedWord_0 : List UInt8 := [27, 184, 0, 131, 154, 0, 7, 2, 167, 0, 21, 42, 180, 0, 46, 27, 50, 199, 0, 11, 42, 4]
abbrev dktX0_askedWord_0 : List UInt8 := dkwX0_askedWord_0 ++ dktX0_askedWord_1
theorem dksX0_askedWord_0 : cX0_askedWord.data.toList.drop 0 = dktX0_askedWord_0 := by decide +kernel
theorem dksX0_askedWord_1 : cX0_askedWord.data.toList.drop 22 = dktX0_askedWord_1 := dk_seg dksX0_askedWord_0 22 rfl rfl
theorem dX0_askedWord_0 : decode cX0_askedWord 0 = .ok (.iload_n 1, 1) := dk_27 (dk_at dksX0_askedWord_0 0 rfl rfl)
theorem dX0_askedWord_1 : decode cX0_askedWord 1 = .ok (.invokestatic 131, 3) := dk_184 0 131 (dk_at dksX0_askedWord_0 1 rfl rfl)
theorem dX0_askedWord_4 : decode cX0_askedWord 4 = .ok (.ifCond .ne 7, 3) := dk_154 0 7 (dk_at dksX0_askedWord_0 4 rfl rfl)
theorem dX0_askedWord_7 : decode cX0_askedWord 7 = .ok (.iconst (-1), 1) := dk_2 (dk_at dksX0_askedWord_0 7 rfl rfl)
theorem dX0_askedWord_8 : decode cX0_askedWord 8 = .ok (.goto 21, 3) := dk_167 0 21 (dk_at dksX0_askedWord_0 8 rfl rfl)
theorem dX0_askedWord_11 : decode cX0_askedWord 11 = .ok (.aload_n 0, 1) := dk_42 (dk_at dksX0_askedWord_0 11 rfl rfl)
theorem dX0_askedWord_12 : decode cX0_askedWord 12 = .ok (.getfield 46, 3) := dk_180 0 46 (dk_at dksX0_askedWord_0 12 rfl rfl)
theorem dX0_askedWord_15 : decode cX0_askedWord 15 = .ok (.iload_n 1, 1) := dk_27 (dk_at dksX0_askedWord_0 15 rfl rfl)
theorem dX0_askedWord_16 : decode cX0_askedWord 16 = .ok (.aaload, 1) := dk_50 (dk_at dksX0_askedWord_0 16 rfl rfl)
theorem dX0_askedWord_17 : decode cX0_askedWord 17 = .ok (.ifnonnull 11, 3) := dk_199 0 11 (dk_at dksX0_askedWord_0 17 rfl rfl)
theorem dX0_askedWord_20 : decode cX0_askedWord 20 = .ok (.aload_n 0, 1) := dk_42 (dk_at dksX0_askedWord_0 20 rfl rfl)
theorem dX0_askedWord_21 : decode cX0_askedWord 21 = .ok (.iconst 1, 1) := dk_4 (dk_at dksX0_askedWord_0 21 rfl rfl)
theorem dX0_askedWord_22 : decode cX0_askedWord 22 = .ok (.invokevirtual 103, 3) := dk_182 0 103 (dk_at dksX0_askedWord_1 0 rfl rfl)
theorem dX0_askedWord_25 : decode cX0_askedWord 25 = .ok (.goto 4, 3) := dk_167 0 4 (dk_at dksX0_askedWord_1 3 rfl rfl)
theorem dX0_askedWord_28 : decode cX0_askedWord 28 = .ok (.iconst 0, 1) := dk_3 (dk_at dksX0_askedWord_1 6 rfl rfl)
theorem dX0_askedWord_29 : decode cX0_askedWord 29 = .ok (.ireturn, 1) := dk_172 (dk_at dksX0_askedWord_1 7 rfl rfl)
abbrev cX0_drop : ByteArray := prog_1_method_36_code
def yX0_drop : MethodName := ⟨RX0, "drop", "(III)I"⟩
def dkwX0_drop_6 : List UInt8 := [25, 5, 190, 172]
abbrev dktX0_drop_6 : List UInt8 := dkwX0_drop_6 ++ []
def dkwX0_drop_5 : List UInt8 := [180, 0, 46, 27, 187, 0, 207, 89, 25, 5, 3, 25, 5, 190, 184, 0, 178, 28, 29, 183, 0, 209, 83]
abbrev dktX0_drop_5 : List UInt8 := dkwX0_drop_5 ++ dktX0_drop_6
def dkwX0_drop_4 : List UInt8 := [182, 0, 188, 182, 0, 203, 29, 164, 0, 10, 25, 7, 58, 5, 167, 0, 6, 132, 6, 1, 167, 255, 184, 42]
abbrev dktX0_drop_4 : List UInt8 := dkwX0_drop_4 ++ dktX0_drop_5
def dkwX0_drop_3 : List UInt8 := [25, 5, 21, 6, 4, 96, 25, 7, 21, 6, 25, 7, 190, 21, 6, 100, 184, 0, 118, 42, 25, 7, 42, 28]
abbrev dktX0_drop_3 : List UInt8 := dkwX0_drop_3 ++ dktX0_drop_4
def dkwX0_drop_2 : List UInt8 := [190, 162, 0, 70, 25, 5, 190, 4, 100, 188, 8, 58, 7, 25, 5, 3, 25, 7, 3, 21, 6, 184, 0, 118]
abbrev dktX0_drop_2 : List UInt8 := dkwX0_drop_2 ++ dktX0_drop_3
def dkwX0_drop_1 : List UInt8 := [54, 4, 21, 4, 156, 0, 6, 21, 4, 172, 42, 28, 182, 0, 188, 58, 5, 3, 54, 6, 21, 6, 25, 5]
abbrev dktX0_drop_1 : List UInt8 := dkwX0_drop_1 ++ dktX0_drop_2
def dkwX0_drop_0 : List UInt8 := [27, 184, 0, 131, 153, 0, 13, 29, 3, 16, 40, 184, 0, 93, 154, 0, 5, 2, 172, 42, 28, 182, 0, 195]
abbrev dktX0_drop_0 : List UInt8 := dkwX0_drop_0 ++ dktX0_drop_1
theorem dksX0_drop_0 : cX0_drop.data.toList.drop 0 = dktX0_drop_0 := by decide +kernel
theorem dksX0_drop_1 : cX0_drop.data.toList.drop 24 = dktX0_drop_1 := dk_seg dksX0_drop_0 24 rfl rfl
theorem dksX0_drop_2 : cX0_drop.data.toList.drop 48 = dktX0_drop_2 := dk_seg dksX0_drop_1 24 rfl rfl
theorem dksX0_drop_3 : cX0_drop.data.toList.drop 72 = dktX0_drop_3 := dk_seg dksX0_drop_2 24 rfl rfl
theorem dksX0_drop_4 : cX0_drop.data.toList.drop 96 = dktX0_drop_4 := dk_seg dksX0_drop_3 24 rfl rfl
theorem dksX0_drop_5 : cX0_drop.data.toList.drop 120 = dktX0_drop_5 := dk_seg dksX0_drop_4 24 rfl rfl
theorem dksX0_drop_6 : cX0_drop.data.toList.drop 143 = dktX0_drop_6 := dk_seg dksX0_drop_5 23 rfl rfl
theorem dX0_drop_0 : decode cX0_drop 0 = .ok (.iload_n 1, 1) := dk_27 (dk_at dksX0_drop_0 0 rfl rfl)
theorem dX0_drop_1 : decode cX0_drop 1 = .ok (.invokestatic 131, 3) := dk_184 0 131 (dk_at dksX0_drop_0 1 rfl rfl)
theorem dX0_drop_4 : decode cX0_drop 4 = .ok (.ifCond .eq 13, 3) := dk_153 0 13 (dk_at dksX0_drop_0 4 rfl rfl)
theorem dX0_drop_7 : decode cX0_drop 7 = .ok (.iload_n 3, 1) := dk_29 (dk_at dksX0_drop_0 7 rfl rfl)
theorem dX0_drop_8 : decode cX0_drop 8 = .ok (.iconst 0, 1) := dk_3 (dk_at dksX0_drop_0 8 rfl rfl)
theorem dX0_drop_9 : decode cX0_drop 9 = .ok (.bipush 40, 2) := dk_16 40 (dk_at dksX0_drop_0 9 rfl rfl)
theorem dX0_drop_11 : decode cX0_drop 11 = .ok (.invokestatic 93, 3) := dk_184 0 93 (dk_at dksX0_drop_0 11 rfl rfl)
theorem dX0_drop_14 : decode cX0_drop 14 = .ok (.ifCond .ne 5, 3) := dk_154 0 5 (dk_at dksX0_drop_0 14 rfl rfl)
theorem dX0_drop_17 : decode cX0_drop 17 = .ok (.iconst (-1), 1) := dk_2 (dk_at dksX0_drop_0 17 rfl rfl)
theorem dX0_drop_18 : decode cX0_drop 18 = .ok (.ireturn, 1) := dk_172 (dk_at dksX0_drop_0 18 rfl rfl)
theorem dX0_drop_19 : decode cX0_drop 19 = .ok (.aload_n 0, 1) := dk_42 (dk_at dksX0_drop_0 19 rfl rfl)
theorem dX0_drop_20 : decode cX0_drop 20 = .ok (.iload_n 2, 1) := dk_28 (dk_at dksX0_drop_0 20 rfl rfl)
theorem dX0_drop_21 : decode cX0_drop 21 = .ok (.invokevirtual 195, 3) := dk_182 0 195 (dk_at dksX0_drop_0 21 rfl rfl)
theorem dX0_drop_24 : decode cX0_drop 24 = .ok (.istore 4, 2) := dk_54 4 (dk_at dksX0_drop_1 0 rfl rfl)
theorem dX0_drop_26 : decode cX0_drop 26 = .ok (.iload 4, 2) := dk_21 4 (dk_at dksX0_drop_1 2 rfl rfl)
theorem dX0_drop_28 : decode cX0_drop 28 = .ok (.ifCond .ge 6, 3) := dk_156 0 6 (dk_at dksX0_drop_1 4 rfl rfl)
theorem dX0_drop_31 : decode cX0_drop 31 = .ok (.iload 4, 2) := dk_21 4 (dk_at dksX0_drop_1 7 rfl rfl)
theorem dX0_drop_33 : decode cX0_drop 33 = .ok (.ireturn, 1) := dk_172 (dk_at dksX0_drop_1 9 rfl rfl)
theorem dX0_drop_34 : decode cX0_drop 34 = .ok (.aload_n 0, 1) := dk_42 (dk_at dksX0_drop_1 10 rfl rfl)
theorem dX0_drop_35 : decode cX0_drop 35 = .ok (.iload_n 2, 1) := dk_28 (dk_at dksX0_drop_1 11 rfl rfl)
theorem dX0_drop_36 : decode cX0_drop 36 = .ok (.invokevirtual 188, 3) := dk_182 0 188 (dk_at dksX0_drop_1 12 rfl rfl)
theorem dX0_drop_39 : decode cX0_drop 39 = .ok (.astore 5, 2) := dk_58 5 (dk_at dksX0_drop_1 15 rfl rfl)
theorem dX0_drop_41 : decode cX0_drop 41 = .ok (.iconst 0, 1) := dk_3 (dk_at dksX0_drop_1 17 rfl rfl)
theorem dX0_drop_42 : decode cX0_drop 42 = .ok (.istore 6, 2) := dk_54 6 (dk_at dksX0_drop_1 18 rfl rfl)
theorem dX0_drop_44 : decode cX0_drop 44 = .ok (.iload 6, 2) := dk_21 6 (dk_at dksX0_drop_1 20 rfl rfl)
theorem dX0_drop_46 : decode cX0_drop 46 = .ok (.aload 5, 2) := dk_25 5 (dk_at dksX0_drop_1 22 rfl rfl)
theorem dX0_drop_48 : decode cX0_drop 48 = .ok (.arraylength, 1) := dk_190 (dk_at dksX0_drop_2 0 rfl rfl)
theorem dX0_drop_49 : decode cX0_drop 49 = .ok (.if_icmp .ge 70, 3) := dk_162 0 70 (dk_at dksX0_drop_2 1 rfl rfl)
theorem dX0_drop_52 : decode cX0_drop 52 = .ok (.aload 5, 2) := dk_25 5 (dk_at dksX0_drop_2 4 rfl rfl)
theorem dX0_drop_54 : decode cX0_drop 54 = .ok (.arraylength, 1) := dk_190 (dk_at dksX0_drop_2 6 rfl rfl)
theorem dX0_drop_55 : decode cX0_drop 55 = .ok (.iconst 1, 1) := dk_4 (dk_at dksX0_drop_2 7 rfl rfl)
theorem dX0_drop_56 : decode cX0_drop 56 = .ok (.isub, 1) := dk_100 (dk_at dksX0_drop_2 8 rfl rfl)
theorem dX0_drop_57 : decode cX0_drop 57 = .ok (.newarray .byte, 2) := dk_188_8 (dk_at dksX0_drop_2 9 rfl rfl)
theorem dX0_drop_59 : decode cX0_drop 59 = .ok (.astore 7, 2) := dk_58 7 (dk_at dksX0_drop_2 11 rfl rfl)
theorem dX0_drop_61 : decode cX0_drop 61 = .ok (.aload 5, 2) := dk_25 5 (dk_at dksX0_drop_2 13 rfl rfl)
theorem dX0_drop_63 : decode cX0_drop 63 = .ok (.iconst 0, 1) := dk_3 (dk_at dksX0_drop_2 15 rfl rfl)
theorem dX0_drop_64 : decode cX0_drop 64 = .ok (.aload 7, 2) := dk_25 7 (dk_at dksX0_drop_2 16 rfl rfl)
theorem dX0_drop_66 : decode cX0_drop 66 = .ok (.iconst 0, 1) := dk_3 (dk_at dksX0_drop_2 18 rfl rfl)
theorem dX0_drop_67 : decode cX0_drop 67 = .ok (.iload 6, 2) := dk_21 6 (dk_at dksX0_drop_2 19 rfl rfl)
theorem dX0_drop_69 : decode cX0_drop 69 = .ok (.invokestatic 118, 3) := dk_184 0 118 (dk_at dksX0_drop_2 21 rfl rfl)
theorem dX0_drop_72 : decode cX0_drop 72 = .ok (.aload 5, 2) := dk_25 5 (dk_at dksX0_drop_3 0 rfl rfl)
theorem dX0_drop_74 : decode cX0_drop 74 = .ok (.iload 6, 2) := dk_21 6 (dk_at dksX0_drop_3 2 rfl rfl)
theorem dX0_drop_76 : decode cX0_drop 76 = .ok (.iconst 1, 1) := dk_4 (dk_at dksX0_drop_3 4 rfl rfl)
theorem dX0_drop_77 : decode cX0_drop 77 = .ok (.iadd, 1) := dk_96 (dk_at dksX0_drop_3 5 rfl rfl)
theorem dX0_drop_78 : decode cX0_drop 78 = .ok (.aload 7, 2) := dk_25 7 (dk_at dksX0_drop_3 6 rfl rfl)
theorem dX0_drop_80 : decode cX0_drop 80 = .ok (.iload 6, 2) := dk_21 6 (dk_at dksX0_drop_3 8 rfl rfl)
theorem dX0_drop_82 : decode cX0_drop 82 = .ok (.aload 7, 2) := dk_25 7 (dk_at dksX0_drop_3 10 rfl rfl)
theorem dX0_drop_84 : decode cX0_drop 84 = .ok (.arraylength, 1) := dk_190 (dk_at dksX0_drop_3 12 rfl rfl)
theorem dX0_drop_85 : decode cX0_drop 85 = .ok (.iload 6, 2) := dk_21 6 (dk_at dksX0_drop_3 13 rfl rfl)
theorem dX0_drop_87 : decode cX0_drop 87 = .ok (.isub, 1) := dk_100 (dk_at dksX0_drop_3 15 rfl rfl)
theorem dX0_drop_88 : decode cX0_drop 88 = .ok (.invokestatic 118, 3) := dk_184 0 118 (dk_at dksX0_drop_3 16 rfl rfl)
theorem dX0_drop_91 : decode cX0_drop 91 = .ok (.aload_n 0, 1) := dk_42 (dk_at dksX0_drop_3 19 rfl rfl)
theorem dX0_drop_92 : decode cX0_drop 92 = .ok (.aload 7, 2) := dk_25 7 (dk_at dksX0_drop_3 20 rfl rfl)
theorem dX0_drop_94 : decode cX0_drop 94 = .ok (.aload_n 0, 1) := dk_42 (dk_at dksX0_drop_3 22 rfl rfl)
theorem dX0_drop_95 : decode cX0_drop 95 = .ok (.iload_n 2, 1) := dk_28 (dk_at dksX0_drop_3 23 rfl rfl)
theorem dX0_drop_96 : decode cX0_drop 96 = .ok (.invokevirtual 188, 3) := dk_182 0 188 (dk_at dksX0_drop_4 0 rfl rfl)
theorem dX0_drop_99 : decode cX0_drop 99 = .ok (.invokevirtual 203, 3) := dk_182 0 203 (dk_at dksX0_drop_4 3 rfl rfl)
theorem dX0_drop_102 : decode cX0_drop 102 = .ok (.iload_n 3, 1) := dk_29 (dk_at dksX0_drop_4 6 rfl rfl)
theorem dX0_drop_103 : decode cX0_drop 103 = .ok (.if_icmp .le 10, 3) := dk_164 0 10 (dk_at dksX0_drop_4 7 rfl rfl)
theorem dX0_drop_106 : decode cX0_drop 106 = .ok (.aload 7, 2) := dk_25 7 (dk_at dksX0_drop_4 10 rfl rfl)
theorem dX0_drop_108 : decode cX0_drop 108 = .ok (.astore 5, 2) := dk_58 5 (dk_at dksX0_drop_4 12 rfl rfl)
theorem dX0_drop_110 : decode cX0_drop 110 = .ok (.goto 6, 3) := dk_167 0 6 (dk_at dksX0_drop_4 14 rfl rfl)
theorem dX0_drop_113 : decode cX0_drop 113 = .ok (.iinc 6 1, 3) := dk_132 6 1 (dk_at dksX0_drop_4 17 rfl rfl)
theorem dX0_drop_116 : decode cX0_drop 116 = .ok (.goto (-72), 3) := dk_167 255 184 (dk_at dksX0_drop_4 20 rfl rfl)
theorem dX0_drop_119 : decode cX0_drop 119 = .ok (.aload_n 0, 1) := dk_42 (dk_at dksX0_drop_4 23 rfl rfl)
theorem dX0_drop_120 : decode cX0_drop 120 = .ok (.getfield 46, 3) := dk_180 0 46 (dk_at dksX0_drop_5 0 rfl rfl)
theorem dX0_drop_123 : decode cX0_drop 123 = .ok (.iload_n 1, 1) := dk_27 (dk_at dksX0_drop_5 3 rfl rfl)
theorem dX0_drop_124 : decode cX0_drop 124 = .ok (.new 207, 3) := dk_187 0 207 (dk_at dksX0_drop_5 4 rfl rfl)
theorem dX0_drop_127 : decode cX0_drop 127 = .ok (.dup, 1) := dk_89 (dk_at dksX0_drop_5 7 rfl rfl)
theorem dX0_drop_128 : decode cX0_drop 128 = .ok (.aload 5, 2) := dk_25 5 (dk_at dksX0_drop_5 8 rfl rfl)
theorem dX0_drop_130 : decode cX0_drop 130 = .ok (.iconst 0, 1) := dk_3 (dk_at dksX0_drop_5 10 rfl rfl)
theorem dX0_drop_131 : decode cX0_drop 131 = .ok (.aload 5, 2) := dk_25 5 (dk_at dksX0_drop_5 11 rfl rfl)
theorem dX0_drop_133 : decode cX0_drop 133 = .ok (.arraylength, 1) := dk_190 (dk_at dksX0_drop_5 13 rfl rfl)
theorem dX0_drop_134 : decode cX0_drop 134 = .ok (.invokestatic 178, 3) := dk_184 0 178 (dk_at dksX0_drop_5 14 rfl rfl)
theorem dX0_drop_137 : decode cX0_drop 137 = .ok (.iload_n 2, 1) := dk_28 (dk_at dksX0_drop_5 17 rfl rfl)
theorem dX0_drop_138 : decode cX0_drop 138 = .ok (.iload_n 3, 1) := dk_29 (dk_at dksX0_drop_5 18 rfl rfl)
theorem dX0_drop_139 : decode cX0_drop 139 = .ok (.invokespecial 209, 3) := dk_183 0 209 (dk_at dksX0_drop_5 19 rfl rfl)
theorem dX0_drop_142 : decode cX0_drop 142 = .ok (.aastore, 1) := dk_83 (dk_at dksX0_drop_5 22 rfl rfl)
theorem dX0_drop_143 : decode cX0_drop 143 = .ok (.aload 5, 2) := dk_25 5 (dk_at dksX0_drop_6 0 rfl rfl)
theorem dX0_drop_145 : decode cX0_drop 145 = .ok (.arraylength, 1) := dk_190 (dk_at dksX0_drop_6 2 rfl rfl)
theorem dX0_drop_146 : decode cX0_drop 146 = .ok (.ireturn, 1) := dk_172 (dk_at dksX0_drop_6 3 rfl rfl)
abbrev cX0_parted : ByteArray := prog_1_method_59_code
def yX0_parted : MethodName := ⟨RX0, "parted", "([B[B)I"⟩
def dkwX0_parted_10 : List UInt8 := [167, 255, 80, 17, 3, 232, 172]
abbrev dktX0_parted_10 : List UInt8 := dkwX0_parted_10 ++ []
def dkwX0_parted_9 : List UInt8 := [21, 9, 21, 6, 79, 42, 180, 0, 69, 21, 4, 21, 9, 79, 132, 4, 1, 132, 6, 1, 167, 255, 103]
abbrev dktX0_parted_9 : List UInt8 := dkwX0_parted_9 ++ dktX0_parted_10
def dkwX0_parted_8 : List UInt8 := [180, 0, 72, 21, 9, 46, 16, 247, 160, 0, 33, 42, 180, 0, 72, 21, 9, 21, 5, 79, 42, 180, 0, 75]
abbrev dktX0_parted_8 : List UInt8 := dkwX0_parted_8 ++ dktX0_parted_9
def dkwX0_parted_7 : List UInt8 := [182, 1, 22, 4, 96, 172, 16, 41, 21, 7, 104, 21, 8, 96, 54, 9, 21, 7, 16, 247, 159, 0, 45, 42]
abbrev dktX0_parted_7 : List UInt8 := dkwX0_parted_7 ++ dktX0_parted_8
def dkwX0_parted_6 : List UInt8 := [167, 0, 4, 3, 159, 0, 24, 42, 21, 5, 181, 1, 16, 42, 21, 6, 181, 1, 19, 42, 21, 5]
abbrev dktX0_parted_6 : List UInt8 := dkwX0_parted_6 ++ dktX0_parted_7
def dkwX0_parted_5 : List UInt8 := [96, 46, 54, 8, 21, 7, 16, 247, 160, 0, 7, 4, 167, 0, 4, 3, 21, 8, 16, 247, 160, 0, 7, 4]
abbrev dktX0_parted_5 : List UInt8 := dkwX0_parted_5 ++ dktX0_parted_6
def dkwX0_parted_4 : List UInt8 := [16, 41, 108, 104, 21, 6, 96, 46, 54, 7, 42, 180, 0, 56, 16, 6, 21, 5, 16, 41, 112, 104, 21, 6]
abbrev dktX0_parted_4 : List UInt8 := dkwX0_parted_4 ++ dktX0_parted_5
def dkwX0_parted_3 : List UInt8 := [46, 54, 5, 132, 3, 1, 3, 54, 6, 21, 6, 16, 6, 162, 0, 152, 42, 180, 0, 53, 16, 6, 21, 5]
abbrev dktX0_parted_3 : List UInt8 := dkwX0_parted_3 ++ dktX0_parted_4
def dkwX0_parted_2 : List UInt8 := [180, 0, 69, 3, 3, 79, 42, 180, 0, 72, 3, 3, 79, 29, 21, 4, 162, 0, 176, 42, 180, 0, 69, 29]
abbrev dktX0_parted_2 : List UInt8 := dkwX0_parted_2 ++ dktX0_parted_3
def dkwX0_parted_1 : List UInt8 := [162, 0, 17, 42, 180, 0, 72, 29, 16, 247, 79, 132, 3, 1, 167, 255, 236, 3, 62, 4, 54, 4, 42]
abbrev dktX0_parted_1 : List UInt8 := dkwX0_parted_1 ++ dktX0_parted_2
def dkwX0_parted_0 : List UInt8 := [43, 42, 180, 0, 53, 184, 0, 249, 44, 42, 180, 0, 56, 184, 0, 249, 3, 62, 29, 42, 180, 0, 72, 190]
abbrev dktX0_parted_0 : List UInt8 := dkwX0_parted_0 ++ dktX0_parted_1
theorem dksX0_parted_0 : cX0_parted.data.toList.drop 0 = dktX0_parted_0 := by decide +kernel
theorem dksX0_parted_1 : cX0_parted.data.toList.drop 24 = dktX0_parted_1 := dk_seg dksX0_parted_0 24 rfl rfl
theorem dksX0_parted_2 : cX0_parted.data.toList.drop 47 = dktX0_parted_2 := dk_seg dksX0_parted_1 23 rfl rfl
theorem dksX0_parted_3 : cX0_parted.data.toList.drop 71 = dktX0_parted_3 := dk_seg dksX0_parted_2 24 rfl rfl
theorem dksX0_parted_4 : cX0_parted.data.toList.drop 95 = dktX0_parted_4 := dk_seg dksX0_parted_3 24 rfl rfl
theorem dksX0_parted_5 : cX0_parted.data.toList.drop 119 = dktX0_parted_5 := dk_seg dksX0_parted_4 24 rfl rfl
theorem dksX0_parted_6 : cX0_parted.data.toList.drop 143 = dktX0_parted_6 := dk_seg dksX0_parted_5 24 rfl rfl
theorem dksX0_parted_7 : cX0_parted.data.toList.drop 165 = dktX0_parted_7 := dk_seg dksX0_parted_6 22 rfl rfl
theorem dksX0_parted_8 : cX0_parted.data.toList.drop 189 = dktX0_parted_8 := dk_seg dksX0_parted_7 24 rfl rfl
theorem dksX0_parted_9 : cX0_parted.data.toList.drop 213 = dktX0_parted_9 := dk_seg dksX0_parted_8 24 rfl rfl
theorem dksX0_parted_10 : cX0_parted.data.toList.drop 236 = dktX0_parted_10 := dk_seg dksX0_parted_9 23 rfl rfl
theorem dX0_parted_0 : decode cX0_parted 0 = .ok (.aload_n 1, 1) := dk_43 (dk_at dksX0_parted_0 0 rfl rfl)
theorem dX0_parted_1 : decode cX0_parted 1 = .ok (.aload_n 0, 1) := dk_42 (dk_at dksX0_parted_0 1 rfl rfl)
theorem dX0_parted_2 : decode cX0_parted 2 = .ok (.getfield 53, 3) := dk_180 0 53 (dk_at dksX0_parted_0 2 rfl rfl)
theorem dX0_parted_5 : decode cX0_parted 5 = .ok (.invokestatic 249, 3) := dk_184 0 249 (dk_at dksX0_parted_0 5 rfl rfl)
theorem dX0_parted_8 : decode cX0_parted 8 = .ok (.aload_n 2, 1) := dk_44 (dk_at dksX0_parted_0 8 rfl rfl)
theorem dX0_parted_9 : decode cX0_parted 9 = .ok (.aload_n 0, 1) := dk_42 (dk_at dksX0_parted_0 9 rfl rfl)
theorem dX0_parted_10 : decode cX0_parted 10 = .ok (.getfield 56, 3) := dk_180 0 56 (dk_at dksX0_parted_0 10 rfl rfl)
theorem dX0_parted_13 : decode cX0_parted 13 = .ok (.invokestatic 249, 3) := dk_184 0 249 (dk_at dksX0_parted_0 13 rfl rfl)
theorem dX0_parted_16 : decode cX0_parted 16 = .ok (.iconst 0, 1) := dk_3 (dk_at dksX0_parted_0 16 rfl rfl)
theorem dX0_parted_17 : decode cX0_parted 17 = .ok (.istore_n 3, 1) := dk_62 (dk_at dksX0_parted_0 17 rfl rfl)
theorem dX0_parted_18 : decode cX0_parted 18 = .ok (.iload_n 3, 1) := dk_29 (dk_at dksX0_parted_0 18 rfl rfl)
theorem dX0_parted_19 : decode cX0_parted 19 = .ok (.aload_n 0, 1) := dk_42 (dk_at dksX0_parted_0 19 rfl rfl)
theorem dX0_parted_20 : decode cX0_parted 20 = .ok (.getfield 72, 3) := dk_180 0 72 (dk_at dksX0_parted_0 20 rfl rfl)
theorem dX0_parted_23 : decode cX0_parted 23 = .ok (.arraylength, 1) := dk_190 (dk_at dksX0_parted_0 23 rfl rfl)
theorem dX0_parted_24 : decode cX0_parted 24 = .ok (.if_icmp .ge 17, 3) := dk_162 0 17 (dk_at dksX0_parted_1 0 rfl rfl)
theorem dX0_parted_27 : decode cX0_parted 27 = .ok (.aload_n 0, 1) := dk_42 (dk_at dksX0_parted_1 3 rfl rfl)
theorem dX0_parted_28 : decode cX0_parted 28 = .ok (.getfield 72, 3) := dk_180 0 72 (dk_at dksX0_parted_1 4 rfl rfl)
theorem dX0_parted_31 : decode cX0_parted 31 = .ok (.iload_n 3, 1) := dk_29 (dk_at dksX0_parted_1 7 rfl rfl)
theorem dX0_parted_32 : decode cX0_parted 32 = .ok (.bipush (-9), 2) := dk_16 247 (dk_at dksX0_parted_1 8 rfl rfl)
theorem dX0_parted_34 : decode cX0_parted 34 = .ok (.iastore, 1) := dk_79 (dk_at dksX0_parted_1 10 rfl rfl)
theorem dX0_parted_35 : decode cX0_parted 35 = .ok (.iinc 3 1, 3) := dk_132 3 1 (dk_at dksX0_parted_1 11 rfl rfl)
theorem dX0_parted_38 : decode cX0_parted 38 = .ok (.goto (-20), 3) := dk_167 255 236 (dk_at dksX0_parted_1 14 rfl rfl)
theorem dX0_parted_41 : decode cX0_parted 41 = .ok (.iconst 0, 1) := dk_3 (dk_at dksX0_parted_1 17 rfl rfl)
theorem dX0_parted_42 : decode cX0_parted 42 = .ok (.istore_n 3, 1) := dk_62 (dk_at dksX0_parted_1 18 rfl rfl)
theorem dX0_parted_43 : decode cX0_parted 43 = .ok (.iconst 1, 1) := dk_4 (dk_at dksX0_parted_1 19 rfl rfl)
theorem dX0_parted_44 : decode cX0_parted 44 = .ok (.istore 4, 2) := dk_54 4 (dk_at dksX0_parted_1 20 rfl rfl)
theorem dX0_parted_46 : decode cX0_parted 46 = .ok (.aload_n 0, 1) := dk_42 (dk_at dksX0_parted_1 22 rfl rfl)
theorem dX0_parted_47 : decode cX0_parted 47 = .ok (.getfield 69, 3) := dk_180 0 69 (dk_at dksX0_parted_2 0 rfl rfl)
theorem dX0_parted_50 : decode cX0_parted 50 = .ok (.iconst 0, 1) := dk_3 (dk_at dksX0_parted_2 3 rfl rfl)
theorem dX0_parted_51 : decode cX0_parted 51 = .ok (.iconst 0, 1) := dk_3 (dk_at dksX0_parted_2 4 rfl rfl)
theorem dX0_parted_52 : decode cX0_parted 52 = .ok (.iastore, 1) := dk_79 (dk_at dksX0_parted_2 5 rfl rfl)
theorem dX0_parted_53 : decode cX0_parted 53 = .ok (.aload_n 0, 1) := dk_42 (dk_at dksX0_parted_2 6 rfl rfl)
theorem dX0_parted_54 : decode cX0_parted 54 = .ok (.getfield 72, 3) := dk_180 0 72 (dk_at dksX0_parted_2 7 rfl rfl)
theorem dX0_parted_57 : decode cX0_parted 57 = .ok (.iconst 0, 1) := dk_3 (dk_at dksX0_parted_2 10 rfl rfl)
theorem dX0_parted_58 : decode cX0_parted 58 = .ok (.iconst 0, 1) := dk_3 (dk_at dksX0_parted_2 11 rfl rfl)
theorem dX0_parted_59 : decode cX0_parted 59 = .ok (.iastore, 1) := dk_79 (dk_at dksX0_parted_2 12 rfl rfl)
theorem dX0_parted_60 : decode cX0_parted 60 = .ok (.iload_n 3, 1) := dk_29 (dk_at dksX0_parted_2 13 rfl rfl)
theorem dX0_parted_61 : decode cX0_parted 61 = .ok (.iload 4, 2) := dk_21 4 (dk_at dksX0_parted_2 14 rfl rfl)
theorem dX0_parted_63 : decode cX0_parted 63 = .ok (.if_icmp .ge 176, 3) := dk_162 0 176 (dk_at dksX0_parted_2 16 rfl rfl)
theorem dX0_parted_66 : decode cX0_parted 66 = .ok (.aload_n 0, 1) := dk_42 (dk_at dksX0_parted_2 19 rfl rfl)
theorem dX0_parted_67 : decode cX0_parted 67 = .ok (.getfield 69, 3) := dk_180 0 69 (dk_at dksX0_parted_2 20 rfl rfl)
theorem dX0_parted_70 : decode cX0_parted 70 = .ok (.iload_n 3, 1) := dk_29 (dk_at dksX0_parted_2 23 rfl rfl)
theorem dX0_parted_71 : decode cX0_parted 71 = .ok (.iaload, 1) := dk_46 (dk_at dksX0_parted_3 0 rfl rfl)
theorem dX0_parted_72 : decode cX0_parted 72 = .ok (.istore 5, 2) := dk_54 5 (dk_at dksX0_parted_3 1 rfl rfl)
theorem dX0_parted_74 : decode cX0_parted 74 = .ok (.iinc 3 1, 3) := dk_132 3 1 (dk_at dksX0_parted_3 3 rfl rfl)
theorem dX0_parted_77 : decode cX0_parted 77 = .ok (.iconst 0, 1) := dk_3 (dk_at dksX0_parted_3 6 rfl rfl)
theorem dX0_parted_78 : decode cX0_parted 78 = .ok (.istore 6, 2) := dk_54 6 (dk_at dksX0_parted_3 7 rfl rfl)
theorem dX0_parted_80 : decode cX0_parted 80 = .ok (.iload 6, 2) := dk_21 6 (dk_at dksX0_parted_3 9 rfl rfl)
theorem dX0_parted_82 : decode cX0_parted 82 = .ok (.bipush 6, 2) := dk_16 6 (dk_at dksX0_parted_3 11 rfl rfl)
theorem dX0_parted_84 : decode cX0_parted 84 = .ok (.if_icmp .ge 152, 3) := dk_162 0 152 (dk_at dksX0_parted_3 13 rfl rfl)
theorem dX0_parted_87 : decode cX0_parted 87 = .ok (.aload_n 0, 1) := dk_42 (dk_at dksX0_parted_3 16 rfl rfl)
theorem dX0_parted_88 : decode cX0_parted 88 = .ok (.getfield 53, 3) := dk_180 0 53 (dk_at dksX0_parted_3 17 rfl rfl)
theorem dX0_parted_91 : decode cX0_parted 91 = .ok (.bipush 6, 2) := dk_16 6 (dk_at dksX0_parted_3 20 rfl rfl)
theorem dX0_parted_93 : decode cX0_parted 93 = .ok (.iload 5, 2) := dk_21 5 (dk_at dksX0_parted_3 22 rfl rfl)
theorem dX0_parted_95 : decode cX0_parted 95 = .ok (.bipush 41, 2) := dk_16 41 (dk_at dksX0_parted_4 0 rfl rfl)
theorem dX0_parted_97 : decode cX0_parted 97 = .ok (.idiv, 1) := dk_108 (dk_at dksX0_parted_4 2 rfl rfl)
theorem dX0_parted_98 : decode cX0_parted 98 = .ok (.imul, 1) := dk_104 (dk_at dksX0_parted_4 3 rfl rfl)
theorem dX0_parted_99 : decode cX0_parted 99 = .ok (.iload 6, 2) := dk_21 6 (dk_at dksX0_parted_4 4 rfl rfl)
theorem dX0_parted_101 : decode cX0_parted 101 = .ok (.iadd, 1) := dk_96 (dk_at dksX0_parted_4 6 rfl rfl)
theorem dX0_parted_102 : decode cX0_parted 102 = .ok (.iaload, 1) := dk_46 (dk_at dksX0_parted_4 7 rfl rfl)
theorem dX0_parted_103 : decode cX0_parted 103 = .ok (.istore 7, 2) := dk_54 7 (dk_at dksX0_parted_4 8 rfl rfl)
theorem dX0_parted_105 : decode cX0_parted 105 = .ok (.aload_n 0, 1) := dk_42 (dk_at dksX0_parted_4 10 rfl rfl)
theorem dX0_parted_106 : decode cX0_parted 106 = .ok (.getfield 56, 3) := dk_180 0 56 (dk_at dksX0_parted_4 11 rfl rfl)
theorem dX0_parted_109 : decode cX0_parted 109 = .ok (.bipush 6, 2) := dk_16 6 (dk_at dksX0_parted_4 14 rfl rfl)
theorem dX0_parted_111 : decode cX0_parted 111 = .ok (.iload 5, 2) := dk_21 5 (dk_at dksX0_parted_4 16 rfl rfl)
theorem dX0_parted_113 : decode cX0_parted 113 = .ok (.bipush 41, 2) := dk_16 41 (dk_at dksX0_parted_4 18 rfl rfl)
theorem dX0_parted_115 : decode cX0_parted 115 = .ok (.irem, 1) := dk_112 (dk_at dksX0_parted_4 20 rfl rfl)
theorem dX0_parted_116 : decode cX0_parted 116 = .ok (.imul, 1) := dk_104 (dk_at dksX0_parted_4 21 rfl rfl)
theorem dX0_parted_117 : decode cX0_parted 117 = .ok (.iload 6, 2) := dk_21 6 (dk_at dksX0_parted_4 22 rfl rfl)
theorem dX0_parted_119 : decode cX0_parted 119 = .ok (.iadd, 1) := dk_96 (dk_at dksX0_parted_5 0 rfl rfl)
theorem dX0_parted_120 : decode cX0_parted 120 = .ok (.iaload, 1) := dk_46 (dk_at dksX0_parted_5 1 rfl rfl)
theorem dX0_parted_121 : decode cX0_parted 121 = .ok (.istore 8, 2) := dk_54 8 (dk_at dksX0_parted_5 2 rfl rfl)
theorem dX0_parted_123 : decode cX0_parted 123 = .ok (.iload 7, 2) := dk_21 7 (dk_at dksX0_parted_5 4 rfl rfl)
theorem dX0_parted_125 : decode cX0_parted 125 = .ok (.bipush (-9), 2) := dk_16 247 (dk_at dksX0_parted_5 6 rfl rfl)
theorem dX0_parted_127 : decode cX0_parted 127 = .ok (.if_icmp .ne 7, 3) := dk_160 0 7 (dk_at dksX0_parted_5 8 rfl rfl)
theorem dX0_parted_130 : decode cX0_parted 130 = .ok (.iconst 1, 1) := dk_4 (dk_at dksX0_parted_5 11 rfl rfl)
theorem dX0_parted_131 : decode cX0_parted 131 = .ok (.goto 4, 3) := dk_167 0 4 (dk_at dksX0_parted_5 12 rfl rfl)
theorem dX0_parted_134 : decode cX0_parted 134 = .ok (.iconst 0, 1) := dk_3 (dk_at dksX0_parted_5 15 rfl rfl)
theorem dX0_parted_135 : decode cX0_parted 135 = .ok (.iload 8, 2) := dk_21 8 (dk_at dksX0_parted_5 16 rfl rfl)
theorem dX0_parted_137 : decode cX0_parted 137 = .ok (.bipush (-9), 2) := dk_16 247 (dk_at dksX0_parted_5 18 rfl rfl)
theorem dX0_parted_139 : decode cX0_parted 139 = .ok (.if_icmp .ne 7, 3) := dk_160 0 7 (dk_at dksX0_parted_5 20 rfl rfl)
theorem dX0_parted_142 : decode cX0_parted 142 = .ok (.iconst 1, 1) := dk_4 (dk_at dksX0_parted_5 23 rfl rfl)
theorem dX0_parted_143 : decode cX0_parted 143 = .ok (.goto 4, 3) := dk_167 0 4 (dk_at dksX0_parted_6 0 rfl rfl)
theorem dX0_parted_146 : decode cX0_parted 146 = .ok (.iconst 0, 1) := dk_3 (dk_at dksX0_parted_6 3 rfl rfl)
theorem dX0_parted_147 : decode cX0_parted 147 = .ok (.if_icmp .eq 24, 3) := dk_159 0 24 (dk_at dksX0_parted_6 4 rfl rfl)
theorem dX0_parted_150 : decode cX0_parted 150 = .ok (.aload_n 0, 1) := dk_42 (dk_at dksX0_parted_6 7 rfl rfl)
theorem dX0_parted_151 : decode cX0_parted 151 = .ok (.iload 5, 2) := dk_21 5 (dk_at dksX0_parted_6 8 rfl rfl)
theorem dX0_parted_153 : decode cX0_parted 153 = .ok (.putfield 272, 3) := dk_181 1 16 (dk_at dksX0_parted_6 10 rfl rfl)
theorem dX0_parted_156 : decode cX0_parted 156 = .ok (.aload_n 0, 1) := dk_42 (dk_at dksX0_parted_6 13 rfl rfl)
theorem dX0_parted_157 : decode cX0_parted 157 = .ok (.iload 6, 2) := dk_21 6 (dk_at dksX0_parted_6 14 rfl rfl)
theorem dX0_parted_159 : decode cX0_parted 159 = .ok (.putfield 275, 3) := dk_181 1 19 (dk_at dksX0_parted_6 16 rfl rfl)
theorem dX0_parted_162 : decode cX0_parted 162 = .ok (.aload_n 0, 1) := dk_42 (dk_at dksX0_parted_6 19 rfl rfl)
theorem dX0_parted_163 : decode cX0_parted 163 = .ok (.iload 5, 2) := dk_21 5 (dk_at dksX0_parted_6 20 rfl rfl)
theorem dX0_parted_165 : decode cX0_parted 165 = .ok (.invokevirtual 278, 3) := dk_182 1 22 (dk_at dksX0_parted_7 0 rfl rfl)
theorem dX0_parted_168 : decode cX0_parted 168 = .ok (.iconst 1, 1) := dk_4 (dk_at dksX0_parted_7 3 rfl rfl)
theorem dX0_parted_169 : decode cX0_parted 169 = .ok (.iadd, 1) := dk_96 (dk_at dksX0_parted_7 4 rfl rfl)
theorem dX0_parted_170 : decode cX0_parted 170 = .ok (.ireturn, 1) := dk_172 (dk_at dksX0_parted_7 5 rfl rfl)
theorem dX0_parted_171 : decode cX0_parted 171 = .ok (.bipush 41, 2) := dk_16 41 (dk_at dksX0_parted_7 6 rfl rfl)
theorem dX0_parted_173 : decode cX0_parted 173 = .ok (.iload 7, 2) := dk_21 7 (dk_at dksX0_parted_7 8 rfl rfl)
theorem dX0_parted_175 : decode cX0_parted 175 = .ok (.imul, 1) := dk_104 (dk_at dksX0_parted_7 10 rfl rfl)
theorem dX0_parted_176 : decode cX0_parted 176 = .ok (.iload 8, 2) := dk_21 8 (dk_at dksX0_parted_7 11 rfl rfl)
theorem dX0_parted_178 : decode cX0_parted 178 = .ok (.iadd, 1) := dk_96 (dk_at dksX0_parted_7 13 rfl rfl)
theorem dX0_parted_179 : decode cX0_parted 179 = .ok (.istore 9, 2) := dk_54 9 (dk_at dksX0_parted_7 14 rfl rfl)
theorem dX0_parted_181 : decode cX0_parted 181 = .ok (.iload 7, 2) := dk_21 7 (dk_at dksX0_parted_7 16 rfl rfl)
theorem dX0_parted_183 : decode cX0_parted 183 = .ok (.bipush (-9), 2) := dk_16 247 (dk_at dksX0_parted_7 18 rfl rfl)
theorem dX0_parted_185 : decode cX0_parted 185 = .ok (.if_icmp .eq 45, 3) := dk_159 0 45 (dk_at dksX0_parted_7 20 rfl rfl)
theorem dX0_parted_188 : decode cX0_parted 188 = .ok (.aload_n 0, 1) := dk_42 (dk_at dksX0_parted_7 23 rfl rfl)
theorem dX0_parted_189 : decode cX0_parted 189 = .ok (.getfield 72, 3) := dk_180 0 72 (dk_at dksX0_parted_8 0 rfl rfl)
theorem dX0_parted_192 : decode cX0_parted 192 = .ok (.iload 9, 2) := dk_21 9 (dk_at dksX0_parted_8 3 rfl rfl)
theorem dX0_parted_194 : decode cX0_parted 194 = .ok (.iaload, 1) := dk_46 (dk_at dksX0_parted_8 5 rfl rfl)
theorem dX0_parted_195 : decode cX0_parted 195 = .ok (.bipush (-9), 2) := dk_16 247 (dk_at dksX0_parted_8 6 rfl rfl)
theorem dX0_parted_197 : decode cX0_parted 197 = .ok (.if_icmp .ne 33, 3) := dk_160 0 33 (dk_at dksX0_parted_8 8 rfl rfl)
theorem dX0_parted_200 : decode cX0_parted 200 = .ok (.aload_n 0, 1) := dk_42 (dk_at dksX0_parted_8 11 rfl rfl)
theorem dX0_parted_201 : decode cX0_parted 201 = .ok (.getfield 72, 3) := dk_180 0 72 (dk_at dksX0_parted_8 12 rfl rfl)
theorem dX0_parted_204 : decode cX0_parted 204 = .ok (.iload 9, 2) := dk_21 9 (dk_at dksX0_parted_8 15 rfl rfl)
theorem dX0_parted_206 : decode cX0_parted 206 = .ok (.iload 5, 2) := dk_21 5 (dk_at dksX0_parted_8 17 rfl rfl)
theorem dX0_parted_208 : decode cX0_parted 208 = .ok (.iastore, 1) := dk_79 (dk_at dksX0_parted_8 19 rfl rfl)
theorem dX0_parted_209 : decode cX0_parted 209 = .ok (.aload_n 0, 1) := dk_42 (dk_at dksX0_parted_8 20 rfl rfl)
theorem dX0_parted_210 : decode cX0_parted 210 = .ok (.getfield 75, 3) := dk_180 0 75 (dk_at dksX0_parted_8 21 rfl rfl)
theorem dX0_parted_213 : decode cX0_parted 213 = .ok (.iload 9, 2) := dk_21 9 (dk_at dksX0_parted_9 0 rfl rfl)
theorem dX0_parted_215 : decode cX0_parted 215 = .ok (.iload 6, 2) := dk_21 6 (dk_at dksX0_parted_9 2 rfl rfl)
theorem dX0_parted_217 : decode cX0_parted 217 = .ok (.iastore, 1) := dk_79 (dk_at dksX0_parted_9 4 rfl rfl)
theorem dX0_parted_218 : decode cX0_parted 218 = .ok (.aload_n 0, 1) := dk_42 (dk_at dksX0_parted_9 5 rfl rfl)
theorem dX0_parted_219 : decode cX0_parted 219 = .ok (.getfield 69, 3) := dk_180 0 69 (dk_at dksX0_parted_9 6 rfl rfl)
theorem dX0_parted_222 : decode cX0_parted 222 = .ok (.iload 4, 2) := dk_21 4 (dk_at dksX0_parted_9 9 rfl rfl)
theorem dX0_parted_224 : decode cX0_parted 224 = .ok (.iload 9, 2) := dk_21 9 (dk_at dksX0_parted_9 11 rfl rfl)
theorem dX0_parted_226 : decode cX0_parted 226 = .ok (.iastore, 1) := dk_79 (dk_at dksX0_parted_9 13 rfl rfl)
theorem dX0_parted_227 : decode cX0_parted 227 = .ok (.iinc 4 1, 3) := dk_132 4 1 (dk_at dksX0_parted_9 14 rfl rfl)
theorem dX0_parted_230 : decode cX0_parted 230 = .ok (.iinc 6 1, 3) := dk_132 6 1 (dk_at dksX0_parted_9 17 rfl rfl)
theorem dX0_parted_233 : decode cX0_parted 233 = .ok (.goto (-153), 3) := dk_167 255 103 (dk_at dksX0_parted_9 20 rfl rfl)
theorem dX0_parted_236 : decode cX0_parted 236 = .ok (.goto (-176), 3) := dk_167 255 80 (dk_at dksX0_parted_10 0 rfl rfl)
theorem dX0_parted_239 : decode cX0_parted 239 = .ok (.sipush 1000, 3) := dk_17 3 232 (dk_at dksX0_parted_10 3 rfl rfl)
theorem dX0_parted_242 : decode cX0_parted 242 = .ok (.ireturn, 1) := dk_172 (dk_at dksX0_parted_10 6 rfl rfl)
abbrev cX0_setNext : ByteArray := prog_1_method_42_code
def yX0_setNext : MethodName := ⟨RX0, "setNext", "([B[I)V"⟩
def dkwX0_setNext_3 : List UInt8 := [96, 104, 21, 4, 96, 46, 79, 132, 4, 1, 167, 255, 212, 132, 3, 255, 167, 255, 199, 177]
abbrev dktX0_setNext_3 : List UInt8 := dkwX0_setNext_3 ++ []
def dkwX0_setNext_2 : List UInt8 := [29, 104, 21, 4, 96, 42, 29, 51, 21, 4, 160, 0, 9, 29, 4, 96, 167, 0, 14, 43, 16, 6, 29, 4]
abbrev dktX0_setNext_2 : List UInt8 := dkwX0_setNext_2 ++ dktX0_setNext_3
def dkwX0_setNext_1 : List UInt8 := [167, 255, 237, 28, 4, 100, 62, 29, 155, 0, 59, 3, 54, 4, 21, 4, 16, 6, 162, 0, 43, 43, 16, 6]
abbrev dktX0_setNext_1 : List UInt8 := dkwX0_setNext_1 ++ dktX0_setNext_2
def dkwX0_setNext_0 : List UInt8 := [42, 190, 61, 3, 62, 29, 16, 6, 162, 0, 19, 43, 16, 6, 28, 104, 29, 96, 16, 247, 79, 132, 3, 1]
abbrev dktX0_setNext_0 : List UInt8 := dkwX0_setNext_0 ++ dktX0_setNext_1
theorem dksX0_setNext_0 : cX0_setNext.data.toList.drop 0 = dktX0_setNext_0 := by decide +kernel
theorem dksX0_setNext_1 : cX0_setNext.data.toList.drop 24 = dktX0_setNext_1 := dk_seg dksX0_setNext_0 24 rfl rfl
theorem dksX0_setNext_2 : cX0_setNext.data.toList.drop 48 = dktX0_setNext_2 := dk_seg dksX0_setNext_1 24 rfl rfl
theorem dksX0_setNext_3 : cX0_setNext.data.toList.drop 72 = dktX0_setNext_3 := dk_seg dksX0_setNext_2 24 rfl rfl
theorem dX0_setNext_0 : decode cX0_setNext 0 = .ok (.aload_n 0, 1) := dk_42 (dk_at dksX0_setNext_0 0 rfl rfl)
theorem dX0_setNext_1 : decode cX0_setNext 1 = .ok (.arraylength, 1) := dk_190 (dk_at dksX0_setNext_0 1 rfl rfl)
theorem dX0_setNext_2 : decode cX0_setNext 2 = .ok (.istore_n 2, 1) := dk_61 (dk_at dksX0_setNext_0 2 rfl rfl)
theorem dX0_setNext_3 : decode cX0_setNext 3 = .ok (.iconst 0, 1) := dk_3 (dk_at dksX0_setNext_0 3 rfl rfl)
theorem dX0_setNext_4 : decode cX0_setNext 4 = .ok (.istore_n 3, 1) := dk_62 (dk_at dksX0_setNext_0 4 rfl rfl)
theorem dX0_setNext_5 : decode cX0_setNext 5 = .ok (.iload_n 3, 1) := dk_29 (dk_at dksX0_setNext_0 5 rfl rfl)
theorem dX0_setNext_6 : decode cX0_setNext 6 = .ok (.bipush 6, 2) := dk_16 6 (dk_at dksX0_setNext_0 6 rfl rfl)
theorem dX0_setNext_8 : decode cX0_setNext 8 = .ok (.if_icmp .ge 19, 3) := dk_162 0 19 (dk_at dksX0_setNext_0 8 rfl rfl)
theorem dX0_setNext_11 : decode cX0_setNext 11 = .ok (.aload_n 1, 1) := dk_43 (dk_at dksX0_setNext_0 11 rfl rfl)
theorem dX0_setNext_12 : decode cX0_setNext 12 = .ok (.bipush 6, 2) := dk_16 6 (dk_at dksX0_setNext_0 12 rfl rfl)
theorem dX0_setNext_14 : decode cX0_setNext 14 = .ok (.iload_n 2, 1) := dk_28 (dk_at dksX0_setNext_0 14 rfl rfl)
theorem dX0_setNext_15 : decode cX0_setNext 15 = .ok (.imul, 1) := dk_104 (dk_at dksX0_setNext_0 15 rfl rfl)
theorem dX0_setNext_16 : decode cX0_setNext 16 = .ok (.iload_n 3, 1) := dk_29 (dk_at dksX0_setNext_0 16 rfl rfl)
theorem dX0_setNext_17 : decode cX0_setNext 17 = .ok (.iadd, 1) := dk_96 (dk_at dksX0_setNext_0 17 rfl rfl)
theorem dX0_setNext_18 : decode cX0_setNext 18 = .ok (.bipush (-9), 2) := dk_16 247 (dk_at dksX0_setNext_0 18 rfl rfl)
theorem dX0_setNext_20 : decode cX0_setNext 20 = .ok (.iastore, 1) := dk_79 (dk_at dksX0_setNext_0 20 rfl rfl)
theorem dX0_setNext_21 : decode cX0_setNext 21 = .ok (.iinc 3 1, 3) := dk_132 3 1 (dk_at dksX0_setNext_0 21 rfl rfl)
theorem dX0_setNext_24 : decode cX0_setNext 24 = .ok (.goto (-19), 3) := dk_167 255 237 (dk_at dksX0_setNext_1 0 rfl rfl)
theorem dX0_setNext_27 : decode cX0_setNext 27 = .ok (.iload_n 2, 1) := dk_28 (dk_at dksX0_setNext_1 3 rfl rfl)
theorem dX0_setNext_28 : decode cX0_setNext 28 = .ok (.iconst 1, 1) := dk_4 (dk_at dksX0_setNext_1 4 rfl rfl)
theorem dX0_setNext_29 : decode cX0_setNext 29 = .ok (.isub, 1) := dk_100 (dk_at dksX0_setNext_1 5 rfl rfl)
theorem dX0_setNext_30 : decode cX0_setNext 30 = .ok (.istore_n 3, 1) := dk_62 (dk_at dksX0_setNext_1 6 rfl rfl)
theorem dX0_setNext_31 : decode cX0_setNext 31 = .ok (.iload_n 3, 1) := dk_29 (dk_at dksX0_setNext_1 7 rfl rfl)
theorem dX0_setNext_32 : decode cX0_setNext 32 = .ok (.ifCond .lt 59, 3) := dk_155 0 59 (dk_at dksX0_setNext_1 8 rfl rfl)
theorem dX0_setNext_35 : decode cX0_setNext 35 = .ok (.iconst 0, 1) := dk_3 (dk_at dksX0_setNext_1 11 rfl rfl)
theorem dX0_setNext_36 : decode cX0_setNext 36 = .ok (.istore 4, 2) := dk_54 4 (dk_at dksX0_setNext_1 12 rfl rfl)
theorem dX0_setNext_38 : decode cX0_setNext 38 = .ok (.iload 4, 2) := dk_21 4 (dk_at dksX0_setNext_1 14 rfl rfl)
theorem dX0_setNext_40 : decode cX0_setNext 40 = .ok (.bipush 6, 2) := dk_16 6 (dk_at dksX0_setNext_1 16 rfl rfl)
theorem dX0_setNext_42 : decode cX0_setNext 42 = .ok (.if_icmp .ge 43, 3) := dk_162 0 43 (dk_at dksX0_setNext_1 18 rfl rfl)
theorem dX0_setNext_45 : decode cX0_setNext 45 = .ok (.aload_n 1, 1) := dk_43 (dk_at dksX0_setNext_1 21 rfl rfl)
theorem dX0_setNext_46 : decode cX0_setNext 46 = .ok (.bipush 6, 2) := dk_16 6 (dk_at dksX0_setNext_1 22 rfl rfl)
theorem dX0_setNext_48 : decode cX0_setNext 48 = .ok (.iload_n 3, 1) := dk_29 (dk_at dksX0_setNext_2 0 rfl rfl)
theorem dX0_setNext_49 : decode cX0_setNext 49 = .ok (.imul, 1) := dk_104 (dk_at dksX0_setNext_2 1 rfl rfl)
theorem dX0_setNext_50 : decode cX0_setNext 50 = .ok (.iload 4, 2) := dk_21 4 (dk_at dksX0_setNext_2 2 rfl rfl)
theorem dX0_setNext_52 : decode cX0_setNext 52 = .ok (.iadd, 1) := dk_96 (dk_at dksX0_setNext_2 4 rfl rfl)
theorem dX0_setNext_53 : decode cX0_setNext 53 = .ok (.aload_n 0, 1) := dk_42 (dk_at dksX0_setNext_2 5 rfl rfl)
theorem dX0_setNext_54 : decode cX0_setNext 54 = .ok (.iload_n 3, 1) := dk_29 (dk_at dksX0_setNext_2 6 rfl rfl)
theorem dX0_setNext_55 : decode cX0_setNext 55 = .ok (.baload, 1) := dk_51 (dk_at dksX0_setNext_2 7 rfl rfl)
theorem dX0_setNext_56 : decode cX0_setNext 56 = .ok (.iload 4, 2) := dk_21 4 (dk_at dksX0_setNext_2 8 rfl rfl)
theorem dX0_setNext_58 : decode cX0_setNext 58 = .ok (.if_icmp .ne 9, 3) := dk_160 0 9 (dk_at dksX0_setNext_2 10 rfl rfl)
theorem dX0_setNext_61 : decode cX0_setNext 61 = .ok (.iload_n 3, 1) := dk_29 (dk_at dksX0_setNext_2 13 rfl rfl)
theorem dX0_setNext_62 : decode cX0_setNext 62 = .ok (.iconst 1, 1) := dk_4 (dk_at dksX0_setNext_2 14 rfl rfl)
theorem dX0_setNext_63 : decode cX0_setNext 63 = .ok (.iadd, 1) := dk_96 (dk_at dksX0_setNext_2 15 rfl rfl)
theorem dX0_setNext_64 : decode cX0_setNext 64 = .ok (.goto 14, 3) := dk_167 0 14 (dk_at dksX0_setNext_2 16 rfl rfl)
theorem dX0_setNext_67 : decode cX0_setNext 67 = .ok (.aload_n 1, 1) := dk_43 (dk_at dksX0_setNext_2 19 rfl rfl)
theorem dX0_setNext_68 : decode cX0_setNext 68 = .ok (.bipush 6, 2) := dk_16 6 (dk_at dksX0_setNext_2 20 rfl rfl)
theorem dX0_setNext_70 : decode cX0_setNext 70 = .ok (.iload_n 3, 1) := dk_29 (dk_at dksX0_setNext_2 22 rfl rfl)
theorem dX0_setNext_71 : decode cX0_setNext 71 = .ok (.iconst 1, 1) := dk_4 (dk_at dksX0_setNext_2 23 rfl rfl)
theorem dX0_setNext_72 : decode cX0_setNext 72 = .ok (.iadd, 1) := dk_96 (dk_at dksX0_setNext_3 0 rfl rfl)
theorem dX0_setNext_73 : decode cX0_setNext 73 = .ok (.imul, 1) := dk_104 (dk_at dksX0_setNext_3 1 rfl rfl)
theorem dX0_setNext_74 : decode cX0_setNext 74 = .ok (.iload 4, 2) := dk_21 4 (dk_at dksX0_setNext_3 2 rfl rfl)
theorem dX0_setNext_76 : decode cX0_setNext 76 = .ok (.iadd, 1) := dk_96 (dk_at dksX0_setNext_3 4 rfl rfl)
theorem dX0_setNext_77 : decode cX0_setNext 77 = .ok (.iaload, 1) := dk_46 (dk_at dksX0_setNext_3 5 rfl rfl)
theorem dX0_setNext_78 : decode cX0_setNext 78 = .ok (.iastore, 1) := dk_79 (dk_at dksX0_setNext_3 6 rfl rfl)
theorem dX0_setNext_79 : decode cX0_setNext 79 = .ok (.iinc 4 1, 3) := dk_132 4 1 (dk_at dksX0_setNext_3 7 rfl rfl)
theorem dX0_setNext_82 : decode cX0_setNext 82 = .ok (.goto (-44), 3) := dk_167 255 212 (dk_at dksX0_setNext_3 10 rfl rfl)
theorem dX0_setNext_85 : decode cX0_setNext 85 = .ok (.iinc 3 (-1), 3) := dk_132 3 255 (dk_at dksX0_setNext_3 13 rfl rfl)
theorem dX0_setNext_88 : decode cX0_setNext 88 = .ok (.goto (-57), 3) := dk_167 255 199 (dk_at dksX0_setNext_3 16 rfl rfl)
theorem dX0_setNext_91 : decode cX0_setNext 91 = .ok (.return_, 1) := dk_177 (dk_at dksX0_setNext_3 19 rfl rfl)
abbrev cX0_lengthTo : ByteArray := prog_1_method_60_code
def yX0_lengthTo : MethodName := ⟨RX0, "lengthTo", "(I)I"⟩
def dkwX0_lengthTo_0 : List UInt8 := [3, 61, 27, 62, 29, 153, 0, 16, 132, 2, 1, 42, 180, 0, 72, 29, 46, 62, 167, 255, 242, 28, 172]
abbrev dktX0_lengthTo_0 : List UInt8 := dkwX0_lengthTo_0 ++ []
theorem dksX0_lengthTo_0 : cX0_lengthTo.data.toList.drop 0 = dktX0_lengthTo_0 := by decide +kernel
theorem dX0_lengthTo_0 : decode cX0_lengthTo 0 = .ok (.iconst 0, 1) := dk_3 (dk_at dksX0_lengthTo_0 0 rfl rfl)
theorem dX0_lengthTo_1 : decode cX0_lengthTo 1 = .ok (.istore_n 2, 1) := dk_61 (dk_at dksX0_lengthTo_0 1 rfl rfl)
theorem dX0_lengthTo_2 : decode cX0_lengthTo 2 = .ok (.iload_n 1, 1) := dk_27 (dk_at dksX0_lengthTo_0 2 rfl rfl)
theorem dX0_lengthTo_3 : decode cX0_lengthTo 3 = .ok (.istore_n 3, 1) := dk_62 (dk_at dksX0_lengthTo_0 3 rfl rfl)
theorem dX0_lengthTo_4 : decode cX0_lengthTo 4 = .ok (.iload_n 3, 1) := dk_29 (dk_at dksX0_lengthTo_0 4 rfl rfl)
theorem dX0_lengthTo_5 : decode cX0_lengthTo 5 = .ok (.ifCond .eq 16, 3) := dk_153 0 16 (dk_at dksX0_lengthTo_0 5 rfl rfl)
theorem dX0_lengthTo_8 : decode cX0_lengthTo 8 = .ok (.iinc 2 1, 3) := dk_132 2 1 (dk_at dksX0_lengthTo_0 8 rfl rfl)
theorem dX0_lengthTo_11 : decode cX0_lengthTo 11 = .ok (.aload_n 0, 1) := dk_42 (dk_at dksX0_lengthTo_0 11 rfl rfl)
theorem dX0_lengthTo_12 : decode cX0_lengthTo 12 = .ok (.getfield 72, 3) := dk_180 0 72 (dk_at dksX0_lengthTo_0 12 rfl rfl)
theorem dX0_lengthTo_15 : decode cX0_lengthTo 15 = .ok (.iload_n 3, 1) := dk_29 (dk_at dksX0_lengthTo_0 15 rfl rfl)
theorem dX0_lengthTo_16 : decode cX0_lengthTo 16 = .ok (.iaload, 1) := dk_46 (dk_at dksX0_lengthTo_0 16 rfl rfl)
theorem dX0_lengthTo_17 : decode cX0_lengthTo 17 = .ok (.istore_n 3, 1) := dk_62 (dk_at dksX0_lengthTo_0 17 rfl rfl)
theorem dX0_lengthTo_18 : decode cX0_lengthTo 18 = .ok (.goto (-14), 3) := dk_167 255 242 (dk_at dksX0_lengthTo_0 18 rfl rfl)
theorem dX0_lengthTo_21 : decode cX0_lengthTo 21 = .ok (.iload_n 2, 1) := dk_28 (dk_at dksX0_lengthTo_0 21 rfl rfl)
theorem dX0_lengthTo_22 : decode cX0_lengthTo 22 = .ok (.ireturn, 1) := dk_172 (dk_at dksX0_lengthTo_0 22 rfl rfl)
abbrev cX0_erase : ByteArray := prog_1_method_37_code
def yX0_erase : MethodName := ⟨RX0, "erase", "(I)I"⟩
def dkwX0_erase_0 : List UInt8 := [42, 27, 182, 0, 195, 61, 28, 156, 0, 5, 28, 172, 42, 180, 0, 46, 27, 1, 83, 4, 172]
abbrev dktX0_erase_0 : List UInt8 := dkwX0_erase_0 ++ []
theorem dksX0_erase_0 : cX0_erase.data.toList.drop 0 = dktX0_erase_0 := by decide +kernel
theorem dX0_erase_0 : decode cX0_erase 0 = .ok (.aload_n 0, 1) := dk_42 (dk_at dksX0_erase_0 0 rfl rfl)
theorem dX0_erase_1 : decode cX0_erase 1 = .ok (.iload_n 1, 1) := dk_27 (dk_at dksX0_erase_0 1 rfl rfl)
theorem dX0_erase_2 : decode cX0_erase 2 = .ok (.invokevirtual 195, 3) := dk_182 0 195 (dk_at dksX0_erase_0 2 rfl rfl)
theorem dX0_erase_5 : decode cX0_erase 5 = .ok (.istore_n 2, 1) := dk_61 (dk_at dksX0_erase_0 5 rfl rfl)
theorem dX0_erase_6 : decode cX0_erase 6 = .ok (.iload_n 2, 1) := dk_28 (dk_at dksX0_erase_0 6 rfl rfl)
theorem dX0_erase_7 : decode cX0_erase 7 = .ok (.ifCond .ge 5, 3) := dk_156 0 5 (dk_at dksX0_erase_0 7 rfl rfl)
theorem dX0_erase_10 : decode cX0_erase 10 = .ok (.iload_n 2, 1) := dk_28 (dk_at dksX0_erase_0 10 rfl rfl)
theorem dX0_erase_11 : decode cX0_erase 11 = .ok (.ireturn, 1) := dk_172 (dk_at dksX0_erase_0 11 rfl rfl)
theorem dX0_erase_12 : decode cX0_erase 12 = .ok (.aload_n 0, 1) := dk_42 (dk_at dksX0_erase_0 12 rfl rfl)
theorem dX0_erase_13 : decode cX0_erase 13 = .ok (.getfield 46, 3) := dk_180 0 46 (dk_at dksX0_erase_0 13 rfl rfl)
theorem dX0_erase_16 : decode cX0_erase 16 = .ok (.iload_n 1, 1) := dk_27 (dk_at dksX0_erase_0 16 rfl rfl)
theorem dX0_erase_17 : decode cX0_erase 17 = .ok (.aconst_null, 1) := dk_1 (dk_at dksX0_erase_0 17 rfl rfl)
theorem dX0_erase_18 : decode cX0_erase 18 = .ok (.aastore, 1) := dk_83 (dk_at dksX0_erase_0 18 rfl rfl)
theorem dX0_erase_19 : decode cX0_erase 19 = .ok (.iconst 1, 1) := dk_4 (dk_at dksX0_erase_0 19 rfl rfl)
theorem dX0_erase_20 : decode cX0_erase 20 = .ok (.ireturn, 1) := dk_172 (dk_at dksX0_erase_0 20 rfl rfl)
abbrev cX0_size : ByteArray := prog_1_method_38_code
def yX0_size : MethodName := ⟨RX0, "size", "(I)I"⟩
def dkwX0_size_0 : List UInt8 := [42, 27, 182, 0, 195, 61, 28, 156, 0, 7, 28, 167, 0, 9, 42, 27, 182, 0, 188, 190, 172]
abbrev dktX0_size_0 : List UInt8 := dkwX0_size_0 ++ []
theorem dksX0_size_0 : cX0_size.data.toList.drop 0 = dktX0_size_0 := by decide +kernel
theorem dX0_size_0 : decode cX0_size 0 = .ok (.aload_n 0, 1) := dk_42 (dk_at dksX0_size_0 0 rfl rfl)
theorem dX0_size_1 : decode cX0_size 1 = .ok (.iload_n 1, 1) := dk_27 (dk_at dksX0_size_0 1 rfl rfl)
theorem dX0_size_2 : decode cX0_size 2 = .ok (.invokevirtual 195, 3) := dk_182 0 195 (dk_at dksX0_size_0 2 rfl rfl)
theorem dX0_size_5 : decode cX0_size 5 = .ok (.istore_n 2, 1) := dk_61 (dk_at dksX0_size_0 5 rfl rfl)
theorem dX0_size_6 : decode cX0_size 6 = .ok (.iload_n 2, 1) := dk_28 (dk_at dksX0_size_0 6 rfl rfl)
theorem dX0_size_7 : decode cX0_size 7 = .ok (.ifCond .ge 7, 3) := dk_156 0 7 (dk_at dksX0_size_0 7 rfl rfl)
theorem dX0_size_10 : decode cX0_size 10 = .ok (.iload_n 2, 1) := dk_28 (dk_at dksX0_size_0 10 rfl rfl)
theorem dX0_size_11 : decode cX0_size 11 = .ok (.goto 9, 3) := dk_167 0 9 (dk_at dksX0_size_0 11 rfl rfl)
theorem dX0_size_14 : decode cX0_size 14 = .ok (.aload_n 0, 1) := dk_42 (dk_at dksX0_size_0 14 rfl rfl)
theorem dX0_size_15 : decode cX0_size 15 = .ok (.iload_n 1, 1) := dk_27 (dk_at dksX0_size_0 15 rfl rfl)
theorem dX0_size_16 : decode cX0_size 16 = .ok (.invokevirtual 188, 3) := dk_182 0 188 (dk_at dksX0_size_0 16 rfl rfl)
theorem dX0_size_19 : decode cX0_size 19 = .ok (.arraylength, 1) := dk_190 (dk_at dksX0_size_0 19 rfl rfl)
theorem dX0_size_20 : decode cX0_size 20 = .ok (.ireturn, 1) := dk_172 (dk_at dksX0_size_0 20 rfl rfl)
abbrev cX0_letter : ByteArray := prog_1_method_39_code
def yX0_letter : MethodName := ⟨RX0, "letter", "(II)I"⟩
def dkwX0_letter_1 : List UInt8 := [184, 0, 93, 153, 0, 13, 42, 27, 182, 0, 188, 28, 51, 167, 0, 8, 42, 5, 182, 0, 103, 172]
abbrev dktX0_letter_1 : List UInt8 := dkwX0_letter_1 ++ []
def dkwX0_letter_0 : List UInt8 := [42, 27, 182, 0, 195, 62, 29, 156, 0, 5, 29, 172, 28, 3, 42, 27, 182, 0, 188, 190, 4, 100]
abbrev dktX0_letter_0 : List UInt8 := dkwX0_letter_0 ++ dktX0_letter_1
theorem dksX0_letter_0 : cX0_letter.data.toList.drop 0 = dktX0_letter_0 := by decide +kernel
theorem dksX0_letter_1 : cX0_letter.data.toList.drop 22 = dktX0_letter_1 := dk_seg dksX0_letter_0 22 rfl rfl
theorem dX0_letter_0 : decode cX0_letter 0 = .ok (.aload_n 0, 1) := dk_42 (dk_at dksX0_letter_0 0 rfl rfl)
theorem dX0_letter_1 : decode cX0_letter 1 = .ok (.iload_n 1, 1) := dk_27 (dk_at dksX0_letter_0 1 rfl rfl)
theorem dX0_letter_2 : decode cX0_letter 2 = .ok (.invokevirtual 195, 3) := dk_182 0 195 (dk_at dksX0_letter_0 2 rfl rfl)
theorem dX0_letter_5 : decode cX0_letter 5 = .ok (.istore_n 3, 1) := dk_62 (dk_at dksX0_letter_0 5 rfl rfl)
theorem dX0_letter_6 : decode cX0_letter 6 = .ok (.iload_n 3, 1) := dk_29 (dk_at dksX0_letter_0 6 rfl rfl)
theorem dX0_letter_7 : decode cX0_letter 7 = .ok (.ifCond .ge 5, 3) := dk_156 0 5 (dk_at dksX0_letter_0 7 rfl rfl)
theorem dX0_letter_10 : decode cX0_letter 10 = .ok (.iload_n 3, 1) := dk_29 (dk_at dksX0_letter_0 10 rfl rfl)
theorem dX0_letter_11 : decode cX0_letter 11 = .ok (.ireturn, 1) := dk_172 (dk_at dksX0_letter_0 11 rfl rfl)
theorem dX0_letter_12 : decode cX0_letter 12 = .ok (.iload_n 2, 1) := dk_28 (dk_at dksX0_letter_0 12 rfl rfl)
theorem dX0_letter_13 : decode cX0_letter 13 = .ok (.iconst 0, 1) := dk_3 (dk_at dksX0_letter_0 13 rfl rfl)
theorem dX0_letter_14 : decode cX0_letter 14 = .ok (.aload_n 0, 1) := dk_42 (dk_at dksX0_letter_0 14 rfl rfl)
theorem dX0_letter_15 : decode cX0_letter 15 = .ok (.iload_n 1, 1) := dk_27 (dk_at dksX0_letter_0 15 rfl rfl)
theorem dX0_letter_16 : decode cX0_letter 16 = .ok (.invokevirtual 188, 3) := dk_182 0 188 (dk_at dksX0_letter_0 16 rfl rfl)
theorem dX0_letter_19 : decode cX0_letter 19 = .ok (.arraylength, 1) := dk_190 (dk_at dksX0_letter_0 19 rfl rfl)
theorem dX0_letter_20 : decode cX0_letter 20 = .ok (.iconst 1, 1) := dk_4 (dk_at dksX0_letter_0 20 rfl rfl)
theorem dX0_letter_21 : decode cX0_letter 21 = .ok (.isub, 1) := dk_100 (dk_at dksX0_letter_0 21 rfl rfl)
theorem dX0_letter_22 : decode cX0_letter 22 = .ok (.invokestatic 93, 3) := dk_184 0 93 (dk_at dksX0_letter_1 0 rfl rfl)
theorem dX0_letter_25 : decode cX0_letter 25 = .ok (.ifCond .eq 13, 3) := dk_153 0 13 (dk_at dksX0_letter_1 3 rfl rfl)
theorem dX0_letter_28 : decode cX0_letter 28 = .ok (.aload_n 0, 1) := dk_42 (dk_at dksX0_letter_1 6 rfl rfl)
theorem dX0_letter_29 : decode cX0_letter 29 = .ok (.iload_n 1, 1) := dk_27 (dk_at dksX0_letter_1 7 rfl rfl)
theorem dX0_letter_30 : decode cX0_letter 30 = .ok (.invokevirtual 188, 3) := dk_182 0 188 (dk_at dksX0_letter_1 8 rfl rfl)
theorem dX0_letter_33 : decode cX0_letter 33 = .ok (.iload_n 2, 1) := dk_28 (dk_at dksX0_letter_1 11 rfl rfl)
theorem dX0_letter_34 : decode cX0_letter 34 = .ok (.baload, 1) := dk_51 (dk_at dksX0_letter_1 12 rfl rfl)
theorem dX0_letter_35 : decode cX0_letter 35 = .ok (.goto 8, 3) := dk_167 0 8 (dk_at dksX0_letter_1 13 rfl rfl)
theorem dX0_letter_38 : decode cX0_letter 38 = .ok (.aload_n 0, 1) := dk_42 (dk_at dksX0_letter_1 16 rfl rfl)
theorem dX0_letter_39 : decode cX0_letter 39 = .ok (.iconst 2, 1) := dk_5 (dk_at dksX0_letter_1 17 rfl rfl)
theorem dX0_letter_40 : decode cX0_letter 40 = .ok (.invokevirtual 103, 3) := dk_182 0 103 (dk_at dksX0_letter_1 18 rfl rfl)
theorem dX0_letter_43 : decode cX0_letter 43 = .ok (.ireturn, 1) := dk_172 (dk_at dksX0_letter_1 21 rfl rfl)
abbrev cX0_kind : ByteArray := prog_1_method_40_code
def yX0_kind : MethodName := ⟨RX0, "kind", "(I)I"⟩
def dkwX0_kind_0 : List UInt8 := [42, 27, 182, 0, 195, 61, 28, 156, 0, 7, 28, 167, 0, 12, 42, 180, 0, 46, 27, 50, 182, 0, 210, 172]
abbrev dktX0_kind_0 : List UInt8 := dkwX0_kind_0 ++ []
theorem dksX0_kind_0 : cX0_kind.data.toList.drop 0 = dktX0_kind_0 := by decide +kernel
theorem dX0_kind_0 : decode cX0_kind 0 = .ok (.aload_n 0, 1) := dk_42 (dk_at dksX0_kind_0 0 rfl rfl)
theorem dX0_kind_1 : decode cX0_kind 1 = .ok (.iload_n 1, 1) := dk_27 (dk_at dksX0_kind_0 1 rfl rfl)
theorem dX0_kind_2 : decode cX0_kind 2 = .ok (.invokevirtual 195, 3) := dk_182 0 195 (dk_at dksX0_kind_0 2 rfl rfl)
theorem dX0_kind_5 : decode cX0_kind 5 = .ok (.istore_n 2, 1) := dk_61 (dk_at dksX0_kind_0 5 rfl rfl)
theorem dX0_kind_6 : decode cX0_kind 6 = .ok (.iload_n 2, 1) := dk_28 (dk_at dksX0_kind_0 6 rfl rfl)
theorem dX0_kind_7 : decode cX0_kind 7 = .ok (.ifCond .ge 7, 3) := dk_156 0 7 (dk_at dksX0_kind_0 7 rfl rfl)
theorem dX0_kind_10 : decode cX0_kind 10 = .ok (.iload_n 2, 1) := dk_28 (dk_at dksX0_kind_0 10 rfl rfl)
theorem dX0_kind_11 : decode cX0_kind 11 = .ok (.goto 12, 3) := dk_167 0 12 (dk_at dksX0_kind_0 11 rfl rfl)
theorem dX0_kind_14 : decode cX0_kind 14 = .ok (.aload_n 0, 1) := dk_42 (dk_at dksX0_kind_0 14 rfl rfl)
theorem dX0_kind_15 : decode cX0_kind 15 = .ok (.getfield 46, 3) := dk_180 0 46 (dk_at dksX0_kind_0 15 rfl rfl)
theorem dX0_kind_18 : decode cX0_kind 18 = .ok (.iload_n 1, 1) := dk_27 (dk_at dksX0_kind_0 18 rfl rfl)
theorem dX0_kind_19 : decode cX0_kind 19 = .ok (.aaload, 1) := dk_50 (dk_at dksX0_kind_0 19 rfl rfl)
theorem dX0_kind_20 : decode cX0_kind 20 = .ok (.invokevirtual 210, 3) := dk_182 0 210 (dk_at dksX0_kind_0 20 rfl rfl)
theorem dX0_kind_23 : decode cX0_kind 23 = .ok (.ireturn, 1) := dk_172 (dk_at dksX0_kind_0 23 rfl rfl)
abbrev cX0_mark : ByteArray := prog_1_method_41_code
def yX0_mark : MethodName := ⟨RX0, "mark", "(II)I"⟩
def dkwX0_mark_4 : List UInt8 := [180, 0, 219, 172, 25, 4, 192, 0, 207, 180, 0, 222, 172, 58, 5, 42, 6, 182, 0, 103, 172]
abbrev dktX0_mark_4 : List UInt8 := dkwX0_mark_4 ++ []
def dkwX0_mark_3 : List UInt8 := [25, 4, 192, 0, 176, 180, 0, 213, 172, 25, 4, 192, 0, 192, 180, 0, 216, 172, 25, 4, 192, 0, 198]
abbrev dktX0_mark_3 : List UInt8 := dkwX0_mark_3 ++ dktX0_mark_4
def dkwX0_mark_2 : List UInt8 := [170, 0, 0, 0, 52, 0, 0, 0, 1, 0, 0, 0, 3, 0, 0, 0, 25, 0, 0, 0, 34, 0, 0, 0, 43]
abbrev dktX0_mark_2 : List UInt8 := dkwX0_mark_2 ++ dktX0_mark_3
def dkwX0_mark_1 : List UInt8 := [29, 156, 0, 5, 29, 172, 42, 180, 0, 46, 27, 50, 58, 4, 28]
abbrev dktX0_mark_1 : List UInt8 := dkwX0_mark_1 ++ dktX0_mark_2
def dkwX0_mark_0 : List UInt8 := [27, 184, 0, 131, 153, 0, 12, 28, 4, 7, 184, 0, 93, 154, 0, 5, 2, 172, 42, 27, 182, 0, 195, 62]
abbrev dktX0_mark_0 : List UInt8 := dkwX0_mark_0 ++ dktX0_mark_1
theorem dksX0_mark_0 : cX0_mark.data.toList.drop 0 = dktX0_mark_0 := by decide +kernel
theorem dksX0_mark_1 : cX0_mark.data.toList.drop 24 = dktX0_mark_1 := dk_seg dksX0_mark_0 24 rfl rfl
theorem dksX0_mark_2 : cX0_mark.data.toList.drop 39 = dktX0_mark_2 := dk_seg dksX0_mark_1 15 rfl rfl
theorem dksX0_mark_3 : cX0_mark.data.toList.drop 64 = dktX0_mark_3 := dk_seg dksX0_mark_2 25 rfl rfl
theorem dksX0_mark_4 : cX0_mark.data.toList.drop 87 = dktX0_mark_4 := dk_seg dksX0_mark_3 23 rfl rfl
theorem dX0_mark_0 : decode cX0_mark 0 = .ok (.iload_n 1, 1) := dk_27 (dk_at dksX0_mark_0 0 rfl rfl)
theorem dX0_mark_1 : decode cX0_mark 1 = .ok (.invokestatic 131, 3) := dk_184 0 131 (dk_at dksX0_mark_0 1 rfl rfl)
theorem dX0_mark_4 : decode cX0_mark 4 = .ok (.ifCond .eq 12, 3) := dk_153 0 12 (dk_at dksX0_mark_0 4 rfl rfl)
theorem dX0_mark_7 : decode cX0_mark 7 = .ok (.iload_n 2, 1) := dk_28 (dk_at dksX0_mark_0 7 rfl rfl)
theorem dX0_mark_8 : decode cX0_mark 8 = .ok (.iconst 1, 1) := dk_4 (dk_at dksX0_mark_0 8 rfl rfl)
theorem dX0_mark_9 : decode cX0_mark 9 = .ok (.iconst 4, 1) := dk_7 (dk_at dksX0_mark_0 9 rfl rfl)
theorem dX0_mark_10 : decode cX0_mark 10 = .ok (.invokestatic 93, 3) := dk_184 0 93 (dk_at dksX0_mark_0 10 rfl rfl)
theorem dX0_mark_13 : decode cX0_mark 13 = .ok (.ifCond .ne 5, 3) := dk_154 0 5 (dk_at dksX0_mark_0 13 rfl rfl)
theorem dX0_mark_16 : decode cX0_mark 16 = .ok (.iconst (-1), 1) := dk_2 (dk_at dksX0_mark_0 16 rfl rfl)
theorem dX0_mark_17 : decode cX0_mark 17 = .ok (.ireturn, 1) := dk_172 (dk_at dksX0_mark_0 17 rfl rfl)
theorem dX0_mark_18 : decode cX0_mark 18 = .ok (.aload_n 0, 1) := dk_42 (dk_at dksX0_mark_0 18 rfl rfl)
theorem dX0_mark_19 : decode cX0_mark 19 = .ok (.iload_n 1, 1) := dk_27 (dk_at dksX0_mark_0 19 rfl rfl)
theorem dX0_mark_20 : decode cX0_mark 20 = .ok (.invokevirtual 195, 3) := dk_182 0 195 (dk_at dksX0_mark_0 20 rfl rfl)
theorem dX0_mark_23 : decode cX0_mark 23 = .ok (.istore_n 3, 1) := dk_62 (dk_at dksX0_mark_0 23 rfl rfl)
theorem dX0_mark_24 : decode cX0_mark 24 = .ok (.iload_n 3, 1) := dk_29 (dk_at dksX0_mark_1 0 rfl rfl)
theorem dX0_mark_25 : decode cX0_mark 25 = .ok (.ifCond .ge 5, 3) := dk_156 0 5 (dk_at dksX0_mark_1 1 rfl rfl)
theorem dX0_mark_28 : decode cX0_mark 28 = .ok (.iload_n 3, 1) := dk_29 (dk_at dksX0_mark_1 4 rfl rfl)
theorem dX0_mark_29 : decode cX0_mark 29 = .ok (.ireturn, 1) := dk_172 (dk_at dksX0_mark_1 5 rfl rfl)
theorem dX0_mark_30 : decode cX0_mark 30 = .ok (.aload_n 0, 1) := dk_42 (dk_at dksX0_mark_1 6 rfl rfl)
theorem dX0_mark_31 : decode cX0_mark 31 = .ok (.getfield 46, 3) := dk_180 0 46 (dk_at dksX0_mark_1 7 rfl rfl)
theorem dX0_mark_34 : decode cX0_mark 34 = .ok (.iload_n 1, 1) := dk_27 (dk_at dksX0_mark_1 10 rfl rfl)
theorem dX0_mark_35 : decode cX0_mark 35 = .ok (.aaload, 1) := dk_50 (dk_at dksX0_mark_1 11 rfl rfl)
theorem dX0_mark_36 : decode cX0_mark 36 = .ok (.astore 4, 2) := dk_58 4 (dk_at dksX0_mark_1 12 rfl rfl)
theorem dX0_mark_38 : decode cX0_mark 38 = .ok (.iload_n 2, 1) := dk_28 (dk_at dksX0_mark_1 14 rfl rfl)
theorem dX0_mark_39 : decode cX0_mark 39 = .ok (.tableswitch 52 1 3 #[25, 34, 43], 25) := by decide +kernel
theorem dX0_mark_64 : decode cX0_mark 64 = .ok (.aload 4, 2) := dk_25 4 (dk_at dksX0_mark_3 0 rfl rfl)
theorem dX0_mark_66 : decode cX0_mark 66 = .ok (.checkcast 176, 3) := dk_192 0 176 (dk_at dksX0_mark_3 2 rfl rfl)
theorem dX0_mark_69 : decode cX0_mark 69 = .ok (.getfield 213, 3) := dk_180 0 213 (dk_at dksX0_mark_3 5 rfl rfl)
theorem dX0_mark_72 : decode cX0_mark 72 = .ok (.ireturn, 1) := dk_172 (dk_at dksX0_mark_3 8 rfl rfl)
theorem dX0_mark_73 : decode cX0_mark 73 = .ok (.aload 4, 2) := dk_25 4 (dk_at dksX0_mark_3 9 rfl rfl)
theorem dX0_mark_75 : decode cX0_mark 75 = .ok (.checkcast 192, 3) := dk_192 0 192 (dk_at dksX0_mark_3 11 rfl rfl)
theorem dX0_mark_78 : decode cX0_mark 78 = .ok (.getfield 216, 3) := dk_180 0 216 (dk_at dksX0_mark_3 14 rfl rfl)
theorem dX0_mark_81 : decode cX0_mark 81 = .ok (.ireturn, 1) := dk_172 (dk_at dksX0_mark_3 17 rfl rfl)
theorem dX0_mark_82 : decode cX0_mark 82 = .ok (.aload 4, 2) := dk_25 4 (dk_at dksX0_mark_3 18 rfl rfl)
theorem dX0_mark_84 : decode cX0_mark 84 = .ok (.checkcast 198, 3) := dk_192 0 198 (dk_at dksX0_mark_3 20 rfl rfl)
theorem dX0_mark_87 : decode cX0_mark 87 = .ok (.getfield 219, 3) := dk_180 0 219 (dk_at dksX0_mark_4 0 rfl rfl)
theorem dX0_mark_90 : decode cX0_mark 90 = .ok (.ireturn, 1) := dk_172 (dk_at dksX0_mark_4 3 rfl rfl)
theorem dX0_mark_91 : decode cX0_mark 91 = .ok (.aload 4, 2) := dk_25 4 (dk_at dksX0_mark_4 4 rfl rfl)
theorem dX0_mark_93 : decode cX0_mark 93 = .ok (.checkcast 207, 3) := dk_192 0 207 (dk_at dksX0_mark_4 6 rfl rfl)
theorem dX0_mark_96 : decode cX0_mark 96 = .ok (.getfield 222, 3) := dk_180 0 222 (dk_at dksX0_mark_4 9 rfl rfl)
theorem dX0_mark_99 : decode cX0_mark 99 = .ok (.ireturn, 1) := dk_172 (dk_at dksX0_mark_4 12 rfl rfl)
theorem dX0_mark_100 : decode cX0_mark 100 = .ok (.astore 5, 2) := dk_58 5 (dk_at dksX0_mark_4 13 rfl rfl)
theorem dX0_mark_102 : decode cX0_mark 102 = .ok (.aload_n 0, 1) := dk_42 (dk_at dksX0_mark_4 15 rfl rfl)
theorem dX0_mark_103 : decode cX0_mark 103 = .ok (.iconst 3, 1) := dk_6 (dk_at dksX0_mark_4 16 rfl rfl)
theorem dX0_mark_104 : decode cX0_mark 104 = .ok (.invokevirtual 103, 3) := dk_182 0 103 (dk_at dksX0_mark_4 17 rfl rfl)
theorem dX0_mark_107 : decode cX0_mark 107 = .ok (.ireturn, 1) := dk_172 (dk_at dksX0_mark_4 20 rfl rfl)
abbrev cX0_ways : ByteArray := prog_1_method_44_code
def yX0_ways : MethodName := ⟨RX0, "ways", "(II)I"⟩
def dkwX0_ways_1 : List UInt8 := [184, 0, 227, 55, 4, 42, 22, 4, 22, 4, 9, 148, 158, 0, 7, 4, 167, 0, 4, 3, 182, 0, 231, 172]
abbrev dktX0_ways_1 : List UInt8 := dkwX0_ways_1 ++ []
def dkwX0_ways_0 : List UInt8 := [42, 27, 28, 182, 0, 185, 62, 29, 156, 0, 5, 29, 172, 42, 27, 182, 0, 188, 42, 28, 182, 0, 188]
abbrev dktX0_ways_0 : List UInt8 := dkwX0_ways_0 ++ dktX0_ways_1
theorem dksX0_ways_0 : cX0_ways.data.toList.drop 0 = dktX0_ways_0 := by decide +kernel
theorem dksX0_ways_1 : cX0_ways.data.toList.drop 23 = dktX0_ways_1 := dk_seg dksX0_ways_0 23 rfl rfl
theorem dX0_ways_0 : decode cX0_ways 0 = .ok (.aload_n 0, 1) := dk_42 (dk_at dksX0_ways_0 0 rfl rfl)
theorem dX0_ways_1 : decode cX0_ways 1 = .ok (.iload_n 1, 1) := dk_27 (dk_at dksX0_ways_0 1 rfl rfl)
theorem dX0_ways_2 : decode cX0_ways 2 = .ok (.iload_n 2, 1) := dk_28 (dk_at dksX0_ways_0 2 rfl rfl)
theorem dX0_ways_3 : decode cX0_ways 3 = .ok (.invokevirtual 185, 3) := dk_182 0 185 (dk_at dksX0_ways_0 3 rfl rfl)
theorem dX0_ways_6 : decode cX0_ways 6 = .ok (.istore_n 3, 1) := dk_62 (dk_at dksX0_ways_0 6 rfl rfl)
theorem dX0_ways_7 : decode cX0_ways 7 = .ok (.iload_n 3, 1) := dk_29 (dk_at dksX0_ways_0 7 rfl rfl)
theorem dX0_ways_8 : decode cX0_ways 8 = .ok (.ifCond .ge 5, 3) := dk_156 0 5 (dk_at dksX0_ways_0 8 rfl rfl)
theorem dX0_ways_11 : decode cX0_ways 11 = .ok (.iload_n 3, 1) := dk_29 (dk_at dksX0_ways_0 11 rfl rfl)
theorem dX0_ways_12 : decode cX0_ways 12 = .ok (.ireturn, 1) := dk_172 (dk_at dksX0_ways_0 12 rfl rfl)
theorem dX0_ways_13 : decode cX0_ways 13 = .ok (.aload_n 0, 1) := dk_42 (dk_at dksX0_ways_0 13 rfl rfl)
theorem dX0_ways_14 : decode cX0_ways 14 = .ok (.iload_n 1, 1) := dk_27 (dk_at dksX0_ways_0 14 rfl rfl)
theorem dX0_ways_15 : decode cX0_ways 15 = .ok (.invokevirtual 188, 3) := dk_182 0 188 (dk_at dksX0_ways_0 15 rfl rfl)
theorem dX0_ways_18 : decode cX0_ways 18 = .ok (.aload_n 0, 1) := dk_42 (dk_at dksX0_ways_0 18 rfl rfl)
theorem dX0_ways_19 : decode cX0_ways 19 = .ok (.iload_n 2, 1) := dk_28 (dk_at dksX0_ways_0 19 rfl rfl)
theorem dX0_ways_20 : decode cX0_ways 20 = .ok (.invokevirtual 188, 3) := dk_182 0 188 (dk_at dksX0_ways_0 20 rfl rfl)
theorem dX0_ways_23 : decode cX0_ways 23 = .ok (.invokestatic 227, 3) := dk_184 0 227 (dk_at dksX0_ways_1 0 rfl rfl)
theorem dX0_ways_26 : decode cX0_ways 26 = .ok (.lstore 4, 2) := dk_55 4 (dk_at dksX0_ways_1 3 rfl rfl)
theorem dX0_ways_28 : decode cX0_ways 28 = .ok (.aload_n 0, 1) := dk_42 (dk_at dksX0_ways_1 5 rfl rfl)
theorem dX0_ways_29 : decode cX0_ways 29 = .ok (.lload 4, 2) := dk_22 4 (dk_at dksX0_ways_1 6 rfl rfl)
theorem dX0_ways_31 : decode cX0_ways 31 = .ok (.lload 4, 2) := dk_22 4 (dk_at dksX0_ways_1 8 rfl rfl)
theorem dX0_ways_33 : decode cX0_ways 33 = .ok (.lconst 0, 1) := dk_9 (dk_at dksX0_ways_1 10 rfl rfl)
theorem dX0_ways_34 : decode cX0_ways 34 = .ok (.lcmp, 1) := dk_148 (dk_at dksX0_ways_1 11 rfl rfl)
theorem dX0_ways_35 : decode cX0_ways 35 = .ok (.ifCond .le 7, 3) := dk_158 0 7 (dk_at dksX0_ways_1 12 rfl rfl)
theorem dX0_ways_38 : decode cX0_ways 38 = .ok (.iconst 1, 1) := dk_4 (dk_at dksX0_ways_1 15 rfl rfl)
theorem dX0_ways_39 : decode cX0_ways 39 = .ok (.goto 4, 3) := dk_167 0 4 (dk_at dksX0_ways_1 16 rfl rfl)
theorem dX0_ways_42 : decode cX0_ways 42 = .ok (.iconst 0, 1) := dk_3 (dk_at dksX0_ways_1 19 rfl rfl)
theorem dX0_ways_43 : decode cX0_ways 43 = .ok (.invokevirtual 231, 3) := dk_182 0 231 (dk_at dksX0_ways_1 20 rfl rfl)
theorem dX0_ways_46 : decode cX0_ways 46 = .ok (.ireturn, 1) := dk_172 (dk_at dksX0_ways_1 23 rfl rfl)
abbrev cX0_waysOf : ByteArray := prog_1_method_43_code
def yX0_waysOf : MethodName := ⟨RX0, "waysOf", "([B[B)J"⟩
def dkwX0_waysOf_3 : List UInt8 := [97, 80, 132, 8, 255, 167, 255, 222, 132, 6, 1, 167, 255, 197, 45, 28, 47, 173]
abbrev dktX0_waysOf_3 : List UInt8 := dkwX0_waysOf_3 ++ []
def dkwX0_waysOf_2 : List UInt8 := [45, 21, 8, 4, 96, 92, 47, 43, 21, 8, 51, 21, 7, 160, 0, 10, 45, 21, 8, 47, 167, 0, 4, 9]
abbrev dktX0_waysOf_2 : List UInt8 := dkwX0_waysOf_2 ++ dktX0_waysOf_3
def dkwX0_waysOf_1 : List UInt8 := [21, 6, 21, 5, 162, 0, 58, 25, 4, 21, 6, 51, 54, 7, 28, 4, 100, 54, 8, 21, 8, 155, 0, 35]
abbrev dktX0_waysOf_1 : List UInt8 := dkwX0_waysOf_1 ++ dktX0_waysOf_2
def dkwX0_waysOf_0 : List UInt8 := [43, 190, 61, 28, 4, 96, 188, 11, 78, 45, 3, 10, 80, 42, 58, 4, 25, 4, 190, 54, 5, 3, 54, 6]
abbrev dktX0_waysOf_0 : List UInt8 := dkwX0_waysOf_0 ++ dktX0_waysOf_1
theorem dksX0_waysOf_0 : cX0_waysOf.data.toList.drop 0 = dktX0_waysOf_0 := by decide +kernel
theorem dksX0_waysOf_1 : cX0_waysOf.data.toList.drop 24 = dktX0_waysOf_1 := dk_seg dksX0_waysOf_0 24 rfl rfl
theorem dksX0_waysOf_2 : cX0_waysOf.data.toList.drop 48 = dktX0_waysOf_2 := dk_seg dksX0_waysOf_1 24 rfl rfl
theorem dksX0_waysOf_3 : cX0_waysOf.data.toList.drop 72 = dktX0_waysOf_3 := dk_seg dksX0_waysOf_2 24 rfl rfl
theorem dX0_waysOf_0 : decode cX0_waysOf 0 = .ok (.aload_n 1, 1) := dk_43 (dk_at dksX0_waysOf_0 0 rfl rfl)
theorem dX0_waysOf_1 : decode cX0_waysOf 1 = .ok (.arraylength, 1) := dk_190 (dk_at dksX0_waysOf_0 1 rfl rfl)
theorem dX0_waysOf_2 : decode cX0_waysOf 2 = .ok (.istore_n 2, 1) := dk_61 (dk_at dksX0_waysOf_0 2 rfl rfl)
theorem dX0_waysOf_3 : decode cX0_waysOf 3 = .ok (.iload_n 2, 1) := dk_28 (dk_at dksX0_waysOf_0 3 rfl rfl)
theorem dX0_waysOf_4 : decode cX0_waysOf 4 = .ok (.iconst 1, 1) := dk_4 (dk_at dksX0_waysOf_0 4 rfl rfl)
theorem dX0_waysOf_5 : decode cX0_waysOf 5 = .ok (.iadd, 1) := dk_96 (dk_at dksX0_waysOf_0 5 rfl rfl)
theorem dX0_waysOf_6 : decode cX0_waysOf 6 = .ok (.newarray .long, 2) := dk_188_11 (dk_at dksX0_waysOf_0 6 rfl rfl)
theorem dX0_waysOf_8 : decode cX0_waysOf 8 = .ok (.astore_n 3, 1) := dk_78 (dk_at dksX0_waysOf_0 8 rfl rfl)
theorem dX0_waysOf_9 : decode cX0_waysOf 9 = .ok (.aload_n 3, 1) := dk_45 (dk_at dksX0_waysOf_0 9 rfl rfl)
theorem dX0_waysOf_10 : decode cX0_waysOf 10 = .ok (.iconst 0, 1) := dk_3 (dk_at dksX0_waysOf_0 10 rfl rfl)
theorem dX0_waysOf_11 : decode cX0_waysOf 11 = .ok (.lconst 1, 1) := dk_10 (dk_at dksX0_waysOf_0 11 rfl rfl)
theorem dX0_waysOf_12 : decode cX0_waysOf 12 = .ok (.lastore, 1) := dk_80 (dk_at dksX0_waysOf_0 12 rfl rfl)
theorem dX0_waysOf_13 : decode cX0_waysOf 13 = .ok (.aload_n 0, 1) := dk_42 (dk_at dksX0_waysOf_0 13 rfl rfl)
theorem dX0_waysOf_14 : decode cX0_waysOf 14 = .ok (.astore 4, 2) := dk_58 4 (dk_at dksX0_waysOf_0 14 rfl rfl)
theorem dX0_waysOf_16 : decode cX0_waysOf 16 = .ok (.aload 4, 2) := dk_25 4 (dk_at dksX0_waysOf_0 16 rfl rfl)
theorem dX0_waysOf_18 : decode cX0_waysOf 18 = .ok (.arraylength, 1) := dk_190 (dk_at dksX0_waysOf_0 18 rfl rfl)
theorem dX0_waysOf_19 : decode cX0_waysOf 19 = .ok (.istore 5, 2) := dk_54 5 (dk_at dksX0_waysOf_0 19 rfl rfl)
theorem dX0_waysOf_21 : decode cX0_waysOf 21 = .ok (.iconst 0, 1) := dk_3 (dk_at dksX0_waysOf_0 21 rfl rfl)
theorem dX0_waysOf_22 : decode cX0_waysOf 22 = .ok (.istore 6, 2) := dk_54 6 (dk_at dksX0_waysOf_0 22 rfl rfl)
theorem dX0_waysOf_24 : decode cX0_waysOf 24 = .ok (.iload 6, 2) := dk_21 6 (dk_at dksX0_waysOf_1 0 rfl rfl)
theorem dX0_waysOf_26 : decode cX0_waysOf 26 = .ok (.iload 5, 2) := dk_21 5 (dk_at dksX0_waysOf_1 2 rfl rfl)
theorem dX0_waysOf_28 : decode cX0_waysOf 28 = .ok (.if_icmp .ge 58, 3) := dk_162 0 58 (dk_at dksX0_waysOf_1 4 rfl rfl)
theorem dX0_waysOf_31 : decode cX0_waysOf 31 = .ok (.aload 4, 2) := dk_25 4 (dk_at dksX0_waysOf_1 7 rfl rfl)
theorem dX0_waysOf_33 : decode cX0_waysOf 33 = .ok (.iload 6, 2) := dk_21 6 (dk_at dksX0_waysOf_1 9 rfl rfl)
theorem dX0_waysOf_35 : decode cX0_waysOf 35 = .ok (.baload, 1) := dk_51 (dk_at dksX0_waysOf_1 11 rfl rfl)
theorem dX0_waysOf_36 : decode cX0_waysOf 36 = .ok (.istore 7, 2) := dk_54 7 (dk_at dksX0_waysOf_1 12 rfl rfl)
theorem dX0_waysOf_38 : decode cX0_waysOf 38 = .ok (.iload_n 2, 1) := dk_28 (dk_at dksX0_waysOf_1 14 rfl rfl)
theorem dX0_waysOf_39 : decode cX0_waysOf 39 = .ok (.iconst 1, 1) := dk_4 (dk_at dksX0_waysOf_1 15 rfl rfl)
theorem dX0_waysOf_40 : decode cX0_waysOf 40 = .ok (.isub, 1) := dk_100 (dk_at dksX0_waysOf_1 16 rfl rfl)
theorem dX0_waysOf_41 : decode cX0_waysOf 41 = .ok (.istore 8, 2) := dk_54 8 (dk_at dksX0_waysOf_1 17 rfl rfl)
theorem dX0_waysOf_43 : decode cX0_waysOf 43 = .ok (.iload 8, 2) := dk_21 8 (dk_at dksX0_waysOf_1 19 rfl rfl)
theorem dX0_waysOf_45 : decode cX0_waysOf 45 = .ok (.ifCond .lt 35, 3) := dk_155 0 35 (dk_at dksX0_waysOf_1 21 rfl rfl)
theorem dX0_waysOf_48 : decode cX0_waysOf 48 = .ok (.aload_n 3, 1) := dk_45 (dk_at dksX0_waysOf_2 0 rfl rfl)
theorem dX0_waysOf_49 : decode cX0_waysOf 49 = .ok (.iload 8, 2) := dk_21 8 (dk_at dksX0_waysOf_2 1 rfl rfl)
theorem dX0_waysOf_51 : decode cX0_waysOf 51 = .ok (.iconst 1, 1) := dk_4 (dk_at dksX0_waysOf_2 3 rfl rfl)
theorem dX0_waysOf_52 : decode cX0_waysOf 52 = .ok (.iadd, 1) := dk_96 (dk_at dksX0_waysOf_2 4 rfl rfl)
theorem dX0_waysOf_53 : decode cX0_waysOf 53 = .ok (.dup2, 1) := dk_92 (dk_at dksX0_waysOf_2 5 rfl rfl)
theorem dX0_waysOf_54 : decode cX0_waysOf 54 = .ok (.laload, 1) := dk_47 (dk_at dksX0_waysOf_2 6 rfl rfl)
theorem dX0_waysOf_55 : decode cX0_waysOf 55 = .ok (.aload_n 1, 1) := dk_43 (dk_at dksX0_waysOf_2 7 rfl rfl)
theorem dX0_waysOf_56 : decode cX0_waysOf 56 = .ok (.iload 8, 2) := dk_21 8 (dk_at dksX0_waysOf_2 8 rfl rfl)
theorem dX0_waysOf_58 : decode cX0_waysOf 58 = .ok (.baload, 1) := dk_51 (dk_at dksX0_waysOf_2 10 rfl rfl)
theorem dX0_waysOf_59 : decode cX0_waysOf 59 = .ok (.iload 7, 2) := dk_21 7 (dk_at dksX0_waysOf_2 11 rfl rfl)
theorem dX0_waysOf_61 : decode cX0_waysOf 61 = .ok (.if_icmp .ne 10, 3) := dk_160 0 10 (dk_at dksX0_waysOf_2 13 rfl rfl)
theorem dX0_waysOf_64 : decode cX0_waysOf 64 = .ok (.aload_n 3, 1) := dk_45 (dk_at dksX0_waysOf_2 16 rfl rfl)
theorem dX0_waysOf_65 : decode cX0_waysOf 65 = .ok (.iload 8, 2) := dk_21 8 (dk_at dksX0_waysOf_2 17 rfl rfl)
theorem dX0_waysOf_67 : decode cX0_waysOf 67 = .ok (.laload, 1) := dk_47 (dk_at dksX0_waysOf_2 19 rfl rfl)
theorem dX0_waysOf_68 : decode cX0_waysOf 68 = .ok (.goto 4, 3) := dk_167 0 4 (dk_at dksX0_waysOf_2 20 rfl rfl)
theorem dX0_waysOf_71 : decode cX0_waysOf 71 = .ok (.lconst 0, 1) := dk_9 (dk_at dksX0_waysOf_2 23 rfl rfl)
theorem dX0_waysOf_72 : decode cX0_waysOf 72 = .ok (.ladd, 1) := dk_97 (dk_at dksX0_waysOf_3 0 rfl rfl)
theorem dX0_waysOf_73 : decode cX0_waysOf 73 = .ok (.lastore, 1) := dk_80 (dk_at dksX0_waysOf_3 1 rfl rfl)
theorem dX0_waysOf_74 : decode cX0_waysOf 74 = .ok (.iinc 8 (-1), 3) := dk_132 8 255 (dk_at dksX0_waysOf_3 2 rfl rfl)
theorem dX0_waysOf_77 : decode cX0_waysOf 77 = .ok (.goto (-34), 3) := dk_167 255 222 (dk_at dksX0_waysOf_3 5 rfl rfl)
theorem dX0_waysOf_80 : decode cX0_waysOf 80 = .ok (.iinc 6 1, 3) := dk_132 6 1 (dk_at dksX0_waysOf_3 8 rfl rfl)
theorem dX0_waysOf_83 : decode cX0_waysOf 83 = .ok (.goto (-59), 3) := dk_167 255 197 (dk_at dksX0_waysOf_3 11 rfl rfl)
theorem dX0_waysOf_86 : decode cX0_waysOf 86 = .ok (.aload_n 3, 1) := dk_45 (dk_at dksX0_waysOf_3 14 rfl rfl)
theorem dX0_waysOf_87 : decode cX0_waysOf 87 = .ok (.iload_n 2, 1) := dk_28 (dk_at dksX0_waysOf_3 15 rfl rfl)
theorem dX0_waysOf_88 : decode cX0_waysOf 88 = .ok (.laload, 1) := dk_47 (dk_at dksX0_waysOf_3 16 rfl rfl)
theorem dX0_waysOf_89 : decode cX0_waysOf 89 = .ok (.lreturn, 1) := dk_173 (dk_at dksX0_waysOf_3 17 rfl rfl)
abbrev cX0_tellMany : ByteArray := prog_1_method_4_code
def yX0_tellMany : MethodName := ⟨RX0, "tellMany", "(JI)I"⟩
def dkwX0_tellMany_0 : List UInt8 := [42, 31, 181, 0, 14, 29, 172]
abbrev dktX0_tellMany_0 : List UInt8 := dkwX0_tellMany_0 ++ []
theorem dksX0_tellMany_0 : cX0_tellMany.data.toList.drop 0 = dktX0_tellMany_0 := by decide +kernel
theorem dX0_tellMany_0 : decode cX0_tellMany 0 = .ok (.aload_n 0, 1) := dk_42 (dk_at dksX0_tellMany_0 0 rfl rfl)
theorem dX0_tellMany_1 : decode cX0_tellMany 1 = .ok (.lload_n 1, 1) := dk_31 (dk_at dksX0_tellMany_0 1 rfl rfl)
theorem dX0_tellMany_2 : decode cX0_tellMany 2 = .ok (.putfield 14, 3) := dk_181 0 14 (dk_at dksX0_tellMany_0 2 rfl rfl)
theorem dX0_tellMany_5 : decode cX0_tellMany 5 = .ok (.iload_n 3, 1) := dk_29 (dk_at dksX0_tellMany_0 5 rfl rfl)
theorem dX0_tellMany_6 : decode cX0_tellMany 6 = .ok (.ireturn, 1) := dk_172 (dk_at dksX0_tellMany_0 6 rfl rfl)
abbrev cX0_way : ByteArray := prog_1_method_46_code
def yX0_way : MethodName := ⟨RX0, "way", "(IIIZ)I"⟩
def dkwX0_way_3 : List UInt8 := [182, 0, 239, 42, 28, 182, 0, 188, 190, 172]
abbrev dktX0_way_3 : List UInt8 := dkwX0_way_3 ++ []
def dkwX0_way_2 : List UInt8 := [21, 4, 153, 0, 10, 42, 180, 0, 62, 167, 0, 7, 42, 180, 0, 59, 42, 28, 182, 0, 188, 190]
abbrev dktX0_way_2 : List UInt8 := dkwX0_way_2 ++ dktX0_way_3
def dkwX0_way_1 : List UInt8 := [172, 42, 42, 27, 182, 0, 188, 42, 28, 182, 0, 188, 182, 0, 235, 154, 0, 6, 16, 247, 172, 42, 29]
abbrev dktX0_way_1 : List UInt8 := dkwX0_way_1 ++ dktX0_way_2
def dkwX0_way_0 : List UInt8 := [29, 184, 0, 97, 154, 0, 5, 2, 172, 42, 27, 28, 182, 0, 185, 54, 5, 21, 5, 156, 0, 6, 21, 5]
abbrev dktX0_way_0 : List UInt8 := dkwX0_way_0 ++ dktX0_way_1
theorem dksX0_way_0 : cX0_way.data.toList.drop 0 = dktX0_way_0 := by decide +kernel
theorem dksX0_way_1 : cX0_way.data.toList.drop 24 = dktX0_way_1 := dk_seg dksX0_way_0 24 rfl rfl
theorem dksX0_way_2 : cX0_way.data.toList.drop 47 = dktX0_way_2 := dk_seg dksX0_way_1 23 rfl rfl
theorem dksX0_way_3 : cX0_way.data.toList.drop 69 = dktX0_way_3 := dk_seg dksX0_way_2 22 rfl rfl
theorem dX0_way_0 : decode cX0_way 0 = .ok (.iload_n 3, 1) := dk_29 (dk_at dksX0_way_0 0 rfl rfl)
theorem dX0_way_1 : decode cX0_way 1 = .ok (.invokestatic 97, 3) := dk_184 0 97 (dk_at dksX0_way_0 1 rfl rfl)
theorem dX0_way_4 : decode cX0_way 4 = .ok (.ifCond .ne 5, 3) := dk_154 0 5 (dk_at dksX0_way_0 4 rfl rfl)
theorem dX0_way_7 : decode cX0_way 7 = .ok (.iconst (-1), 1) := dk_2 (dk_at dksX0_way_0 7 rfl rfl)
theorem dX0_way_8 : decode cX0_way 8 = .ok (.ireturn, 1) := dk_172 (dk_at dksX0_way_0 8 rfl rfl)
theorem dX0_way_9 : decode cX0_way 9 = .ok (.aload_n 0, 1) := dk_42 (dk_at dksX0_way_0 9 rfl rfl)
theorem dX0_way_10 : decode cX0_way 10 = .ok (.iload_n 1, 1) := dk_27 (dk_at dksX0_way_0 10 rfl rfl)
theorem dX0_way_11 : decode cX0_way 11 = .ok (.iload_n 2, 1) := dk_28 (dk_at dksX0_way_0 11 rfl rfl)
theorem dX0_way_12 : decode cX0_way 12 = .ok (.invokevirtual 185, 3) := dk_182 0 185 (dk_at dksX0_way_0 12 rfl rfl)
theorem dX0_way_15 : decode cX0_way 15 = .ok (.istore 5, 2) := dk_54 5 (dk_at dksX0_way_0 15 rfl rfl)
theorem dX0_way_17 : decode cX0_way 17 = .ok (.iload 5, 2) := dk_21 5 (dk_at dksX0_way_0 17 rfl rfl)
theorem dX0_way_19 : decode cX0_way 19 = .ok (.ifCond .ge 6, 3) := dk_156 0 6 (dk_at dksX0_way_0 19 rfl rfl)
theorem dX0_way_22 : decode cX0_way 22 = .ok (.iload 5, 2) := dk_21 5 (dk_at dksX0_way_0 22 rfl rfl)
theorem dX0_way_24 : decode cX0_way 24 = .ok (.ireturn, 1) := dk_172 (dk_at dksX0_way_1 0 rfl rfl)
theorem dX0_way_25 : decode cX0_way 25 = .ok (.aload_n 0, 1) := dk_42 (dk_at dksX0_way_1 1 rfl rfl)
theorem dX0_way_26 : decode cX0_way 26 = .ok (.aload_n 0, 1) := dk_42 (dk_at dksX0_way_1 2 rfl rfl)
theorem dX0_way_27 : decode cX0_way 27 = .ok (.iload_n 1, 1) := dk_27 (dk_at dksX0_way_1 3 rfl rfl)
theorem dX0_way_28 : decode cX0_way 28 = .ok (.invokevirtual 188, 3) := dk_182 0 188 (dk_at dksX0_way_1 4 rfl rfl)
theorem dX0_way_31 : decode cX0_way 31 = .ok (.aload_n 0, 1) := dk_42 (dk_at dksX0_way_1 7 rfl rfl)
theorem dX0_way_32 : decode cX0_way 32 = .ok (.iload_n 2, 1) := dk_28 (dk_at dksX0_way_1 8 rfl rfl)
theorem dX0_way_33 : decode cX0_way 33 = .ok (.invokevirtual 188, 3) := dk_182 0 188 (dk_at dksX0_way_1 9 rfl rfl)
theorem dX0_way_36 : decode cX0_way 36 = .ok (.invokevirtual 235, 3) := dk_182 0 235 (dk_at dksX0_way_1 12 rfl rfl)
theorem dX0_way_39 : decode cX0_way 39 = .ok (.ifCond .ne 6, 3) := dk_154 0 6 (dk_at dksX0_way_1 15 rfl rfl)
theorem dX0_way_42 : decode cX0_way 42 = .ok (.bipush (-9), 2) := dk_16 247 (dk_at dksX0_way_1 18 rfl rfl)
theorem dX0_way_44 : decode cX0_way 44 = .ok (.ireturn, 1) := dk_172 (dk_at dksX0_way_1 20 rfl rfl)
theorem dX0_way_45 : decode cX0_way 45 = .ok (.aload_n 0, 1) := dk_42 (dk_at dksX0_way_1 21 rfl rfl)
theorem dX0_way_46 : decode cX0_way 46 = .ok (.iload_n 3, 1) := dk_29 (dk_at dksX0_way_1 22 rfl rfl)
theorem dX0_way_47 : decode cX0_way 47 = .ok (.iload 4, 2) := dk_21 4 (dk_at dksX0_way_2 0 rfl rfl)
theorem dX0_way_49 : decode cX0_way 49 = .ok (.ifCond .eq 10, 3) := dk_153 0 10 (dk_at dksX0_way_2 2 rfl rfl)
theorem dX0_way_52 : decode cX0_way 52 = .ok (.aload_n 0, 1) := dk_42 (dk_at dksX0_way_2 5 rfl rfl)
theorem dX0_way_53 : decode cX0_way 53 = .ok (.getfield 62, 3) := dk_180 0 62 (dk_at dksX0_way_2 6 rfl rfl)
theorem dX0_way_56 : decode cX0_way 56 = .ok (.goto 7, 3) := dk_167 0 7 (dk_at dksX0_way_2 9 rfl rfl)
theorem dX0_way_59 : decode cX0_way 59 = .ok (.aload_n 0, 1) := dk_42 (dk_at dksX0_way_2 12 rfl rfl)
theorem dX0_way_60 : decode cX0_way 60 = .ok (.getfield 59, 3) := dk_180 0 59 (dk_at dksX0_way_2 13 rfl rfl)
theorem dX0_way_63 : decode cX0_way 63 = .ok (.aload_n 0, 1) := dk_42 (dk_at dksX0_way_2 16 rfl rfl)
theorem dX0_way_64 : decode cX0_way 64 = .ok (.iload_n 2, 1) := dk_28 (dk_at dksX0_way_2 17 rfl rfl)
theorem dX0_way_65 : decode cX0_way 65 = .ok (.invokevirtual 188, 3) := dk_182 0 188 (dk_at dksX0_way_2 18 rfl rfl)
theorem dX0_way_68 : decode cX0_way 68 = .ok (.arraylength, 1) := dk_190 (dk_at dksX0_way_2 21 rfl rfl)
theorem dX0_way_69 : decode cX0_way 69 = .ok (.invokevirtual 239, 3) := dk_182 0 239 (dk_at dksX0_way_3 0 rfl rfl)
theorem dX0_way_72 : decode cX0_way 72 = .ok (.aload_n 0, 1) := dk_42 (dk_at dksX0_way_3 3 rfl rfl)
theorem dX0_way_73 : decode cX0_way 73 = .ok (.iload_n 2, 1) := dk_28 (dk_at dksX0_way_3 4 rfl rfl)
theorem dX0_way_74 : decode cX0_way 74 = .ok (.invokevirtual 188, 3) := dk_182 0 188 (dk_at dksX0_way_3 5 rfl rfl)
theorem dX0_way_77 : decode cX0_way 77 = .ok (.arraylength, 1) := dk_190 (dk_at dksX0_way_3 8 rfl rfl)
theorem dX0_way_78 : decode cX0_way 78 = .ok (.ireturn, 1) := dk_172 (dk_at dksX0_way_3 9 rfl rfl)
abbrev cX0_setWays : ByteArray := prog_1_method_45_code
def yX0_setWays : MethodName := ⟨RX0, "setWays", "([B[B)Z"⟩
def dkwX0_setWays_4 : List UInt8 := [132, 4, 255, 167, 255, 223, 4, 172]
abbrev dktX0_setWays_4 : List UInt8 := dkwX0_setWays_4 ++ []
def dkwX0_setWays_3 : List UInt8 := [155, 0, 30, 43, 21, 4, 51, 44, 29, 51, 160, 0, 14, 42, 180, 0, 62, 29, 21, 4, 79, 132, 3, 255]
abbrev dktX0_setWays_3 : List UInt8 := dkwX0_setWays_3 ++ dktX0_setWays_4
def dkwX0_setWays_2 : List UInt8 := [162, 0, 5, 3, 172, 44, 190, 4, 100, 62, 43, 190, 4, 100, 54, 4, 21, 4, 155, 0, 34, 29]
abbrev dktX0_setWays_2 : List UInt8 := dkwX0_setWays_2 ++ dktX0_setWays_3
def dkwX0_setWays_1 : List UInt8 := [51, 160, 0, 14, 42, 180, 0, 59, 29, 21, 4, 79, 132, 3, 1, 132, 4, 1, 167, 255, 219, 29, 44, 190]
abbrev dktX0_setWays_1 : List UInt8 := dkwX0_setWays_1 ++ dktX0_setWays_2
def dkwX0_setWays_0 : List UInt8 := [3, 62, 3, 54, 4, 21, 4, 43, 190, 162, 0, 36, 29, 44, 190, 162, 0, 30, 43, 21, 4, 51, 44, 29]
abbrev dktX0_setWays_0 : List UInt8 := dkwX0_setWays_0 ++ dktX0_setWays_1
theorem dksX0_setWays_0 : cX0_setWays.data.toList.drop 0 = dktX0_setWays_0 := by decide +kernel
theorem dksX0_setWays_1 : cX0_setWays.data.toList.drop 24 = dktX0_setWays_1 := dk_seg dksX0_setWays_0 24 rfl rfl
theorem dksX0_setWays_2 : cX0_setWays.data.toList.drop 48 = dktX0_setWays_2 := dk_seg dksX0_setWays_1 24 rfl rfl
theorem dksX0_setWays_3 : cX0_setWays.data.toList.drop 70 = dktX0_setWays_3 := dk_seg dksX0_setWays_2 22 rfl rfl
theorem dksX0_setWays_4 : cX0_setWays.data.toList.drop 94 = dktX0_setWays_4 := dk_seg dksX0_setWays_3 24 rfl rfl
theorem dX0_setWays_0 : decode cX0_setWays 0 = .ok (.iconst 0, 1) := dk_3 (dk_at dksX0_setWays_0 0 rfl rfl)
theorem dX0_setWays_1 : decode cX0_setWays 1 = .ok (.istore_n 3, 1) := dk_62 (dk_at dksX0_setWays_0 1 rfl rfl)
theorem dX0_setWays_2 : decode cX0_setWays 2 = .ok (.iconst 0, 1) := dk_3 (dk_at dksX0_setWays_0 2 rfl rfl)
theorem dX0_setWays_3 : decode cX0_setWays 3 = .ok (.istore 4, 2) := dk_54 4 (dk_at dksX0_setWays_0 3 rfl rfl)
theorem dX0_setWays_5 : decode cX0_setWays 5 = .ok (.iload 4, 2) := dk_21 4 (dk_at dksX0_setWays_0 5 rfl rfl)
theorem dX0_setWays_7 : decode cX0_setWays 7 = .ok (.aload_n 1, 1) := dk_43 (dk_at dksX0_setWays_0 7 rfl rfl)
theorem dX0_setWays_8 : decode cX0_setWays 8 = .ok (.arraylength, 1) := dk_190 (dk_at dksX0_setWays_0 8 rfl rfl)
theorem dX0_setWays_9 : decode cX0_setWays 9 = .ok (.if_icmp .ge 36, 3) := dk_162 0 36 (dk_at dksX0_setWays_0 9 rfl rfl)
theorem dX0_setWays_12 : decode cX0_setWays 12 = .ok (.iload_n 3, 1) := dk_29 (dk_at dksX0_setWays_0 12 rfl rfl)
theorem dX0_setWays_13 : decode cX0_setWays 13 = .ok (.aload_n 2, 1) := dk_44 (dk_at dksX0_setWays_0 13 rfl rfl)
theorem dX0_setWays_14 : decode cX0_setWays 14 = .ok (.arraylength, 1) := dk_190 (dk_at dksX0_setWays_0 14 rfl rfl)
theorem dX0_setWays_15 : decode cX0_setWays 15 = .ok (.if_icmp .ge 30, 3) := dk_162 0 30 (dk_at dksX0_setWays_0 15 rfl rfl)
theorem dX0_setWays_18 : decode cX0_setWays 18 = .ok (.aload_n 1, 1) := dk_43 (dk_at dksX0_setWays_0 18 rfl rfl)
theorem dX0_setWays_19 : decode cX0_setWays 19 = .ok (.iload 4, 2) := dk_21 4 (dk_at dksX0_setWays_0 19 rfl rfl)
theorem dX0_setWays_21 : decode cX0_setWays 21 = .ok (.baload, 1) := dk_51 (dk_at dksX0_setWays_0 21 rfl rfl)
theorem dX0_setWays_22 : decode cX0_setWays 22 = .ok (.aload_n 2, 1) := dk_44 (dk_at dksX0_setWays_0 22 rfl rfl)
theorem dX0_setWays_23 : decode cX0_setWays 23 = .ok (.iload_n 3, 1) := dk_29 (dk_at dksX0_setWays_0 23 rfl rfl)
theorem dX0_setWays_24 : decode cX0_setWays 24 = .ok (.baload, 1) := dk_51 (dk_at dksX0_setWays_1 0 rfl rfl)
theorem dX0_setWays_25 : decode cX0_setWays 25 = .ok (.if_icmp .ne 14, 3) := dk_160 0 14 (dk_at dksX0_setWays_1 1 rfl rfl)
theorem dX0_setWays_28 : decode cX0_setWays 28 = .ok (.aload_n 0, 1) := dk_42 (dk_at dksX0_setWays_1 4 rfl rfl)
theorem dX0_setWays_29 : decode cX0_setWays 29 = .ok (.getfield 59, 3) := dk_180 0 59 (dk_at dksX0_setWays_1 5 rfl rfl)
theorem dX0_setWays_32 : decode cX0_setWays 32 = .ok (.iload_n 3, 1) := dk_29 (dk_at dksX0_setWays_1 8 rfl rfl)
theorem dX0_setWays_33 : decode cX0_setWays 33 = .ok (.iload 4, 2) := dk_21 4 (dk_at dksX0_setWays_1 9 rfl rfl)
theorem dX0_setWays_35 : decode cX0_setWays 35 = .ok (.iastore, 1) := dk_79 (dk_at dksX0_setWays_1 11 rfl rfl)
theorem dX0_setWays_36 : decode cX0_setWays 36 = .ok (.iinc 3 1, 3) := dk_132 3 1 (dk_at dksX0_setWays_1 12 rfl rfl)
theorem dX0_setWays_39 : decode cX0_setWays 39 = .ok (.iinc 4 1, 3) := dk_132 4 1 (dk_at dksX0_setWays_1 15 rfl rfl)
theorem dX0_setWays_42 : decode cX0_setWays 42 = .ok (.goto (-37), 3) := dk_167 255 219 (dk_at dksX0_setWays_1 18 rfl rfl)
theorem dX0_setWays_45 : decode cX0_setWays 45 = .ok (.iload_n 3, 1) := dk_29 (dk_at dksX0_setWays_1 21 rfl rfl)
theorem dX0_setWays_46 : decode cX0_setWays 46 = .ok (.aload_n 2, 1) := dk_44 (dk_at dksX0_setWays_1 22 rfl rfl)
theorem dX0_setWays_47 : decode cX0_setWays 47 = .ok (.arraylength, 1) := dk_190 (dk_at dksX0_setWays_1 23 rfl rfl)
theorem dX0_setWays_48 : decode cX0_setWays 48 = .ok (.if_icmp .ge 5, 3) := dk_162 0 5 (dk_at dksX0_setWays_2 0 rfl rfl)
theorem dX0_setWays_51 : decode cX0_setWays 51 = .ok (.iconst 0, 1) := dk_3 (dk_at dksX0_setWays_2 3 rfl rfl)
theorem dX0_setWays_52 : decode cX0_setWays 52 = .ok (.ireturn, 1) := dk_172 (dk_at dksX0_setWays_2 4 rfl rfl)
theorem dX0_setWays_53 : decode cX0_setWays 53 = .ok (.aload_n 2, 1) := dk_44 (dk_at dksX0_setWays_2 5 rfl rfl)
theorem dX0_setWays_54 : decode cX0_setWays 54 = .ok (.arraylength, 1) := dk_190 (dk_at dksX0_setWays_2 6 rfl rfl)
theorem dX0_setWays_55 : decode cX0_setWays 55 = .ok (.iconst 1, 1) := dk_4 (dk_at dksX0_setWays_2 7 rfl rfl)
theorem dX0_setWays_56 : decode cX0_setWays 56 = .ok (.isub, 1) := dk_100 (dk_at dksX0_setWays_2 8 rfl rfl)
theorem dX0_setWays_57 : decode cX0_setWays 57 = .ok (.istore_n 3, 1) := dk_62 (dk_at dksX0_setWays_2 9 rfl rfl)
theorem dX0_setWays_58 : decode cX0_setWays 58 = .ok (.aload_n 1, 1) := dk_43 (dk_at dksX0_setWays_2 10 rfl rfl)
theorem dX0_setWays_59 : decode cX0_setWays 59 = .ok (.arraylength, 1) := dk_190 (dk_at dksX0_setWays_2 11 rfl rfl)
theorem dX0_setWays_60 : decode cX0_setWays 60 = .ok (.iconst 1, 1) := dk_4 (dk_at dksX0_setWays_2 12 rfl rfl)
theorem dX0_setWays_61 : decode cX0_setWays 61 = .ok (.isub, 1) := dk_100 (dk_at dksX0_setWays_2 13 rfl rfl)
theorem dX0_setWays_62 : decode cX0_setWays 62 = .ok (.istore 4, 2) := dk_54 4 (dk_at dksX0_setWays_2 14 rfl rfl)
theorem dX0_setWays_64 : decode cX0_setWays 64 = .ok (.iload 4, 2) := dk_21 4 (dk_at dksX0_setWays_2 16 rfl rfl)
theorem dX0_setWays_66 : decode cX0_setWays 66 = .ok (.ifCond .lt 34, 3) := dk_155 0 34 (dk_at dksX0_setWays_2 18 rfl rfl)
theorem dX0_setWays_69 : decode cX0_setWays 69 = .ok (.iload_n 3, 1) := dk_29 (dk_at dksX0_setWays_2 21 rfl rfl)
theorem dX0_setWays_70 : decode cX0_setWays 70 = .ok (.ifCond .lt 30, 3) := dk_155 0 30 (dk_at dksX0_setWays_3 0 rfl rfl)
theorem dX0_setWays_73 : decode cX0_setWays 73 = .ok (.aload_n 1, 1) := dk_43 (dk_at dksX0_setWays_3 3 rfl rfl)
theorem dX0_setWays_74 : decode cX0_setWays 74 = .ok (.iload 4, 2) := dk_21 4 (dk_at dksX0_setWays_3 4 rfl rfl)
theorem dX0_setWays_76 : decode cX0_setWays 76 = .ok (.baload, 1) := dk_51 (dk_at dksX0_setWays_3 6 rfl rfl)
theorem dX0_setWays_77 : decode cX0_setWays 77 = .ok (.aload_n 2, 1) := dk_44 (dk_at dksX0_setWays_3 7 rfl rfl)
theorem dX0_setWays_78 : decode cX0_setWays 78 = .ok (.iload_n 3, 1) := dk_29 (dk_at dksX0_setWays_3 8 rfl rfl)
theorem dX0_setWays_79 : decode cX0_setWays 79 = .ok (.baload, 1) := dk_51 (dk_at dksX0_setWays_3 9 rfl rfl)
theorem dX0_setWays_80 : decode cX0_setWays 80 = .ok (.if_icmp .ne 14, 3) := dk_160 0 14 (dk_at dksX0_setWays_3 10 rfl rfl)
theorem dX0_setWays_83 : decode cX0_setWays 83 = .ok (.aload_n 0, 1) := dk_42 (dk_at dksX0_setWays_3 13 rfl rfl)
theorem dX0_setWays_84 : decode cX0_setWays 84 = .ok (.getfield 62, 3) := dk_180 0 62 (dk_at dksX0_setWays_3 14 rfl rfl)
theorem dX0_setWays_87 : decode cX0_setWays 87 = .ok (.iload_n 3, 1) := dk_29 (dk_at dksX0_setWays_3 17 rfl rfl)
theorem dX0_setWays_88 : decode cX0_setWays 88 = .ok (.iload 4, 2) := dk_21 4 (dk_at dksX0_setWays_3 18 rfl rfl)
theorem dX0_setWays_90 : decode cX0_setWays 90 = .ok (.iastore, 1) := dk_79 (dk_at dksX0_setWays_3 20 rfl rfl)
theorem dX0_setWays_91 : decode cX0_setWays 91 = .ok (.iinc 3 (-1), 3) := dk_132 3 255 (dk_at dksX0_setWays_3 21 rfl rfl)
theorem dX0_setWays_94 : decode cX0_setWays 94 = .ok (.iinc 4 (-1), 3) := dk_132 4 255 (dk_at dksX0_setWays_4 0 rfl rfl)
theorem dX0_setWays_97 : decode cX0_setWays 97 = .ok (.goto (-33), 3) := dk_167 255 223 (dk_at dksX0_setWays_4 3 rfl rfl)
theorem dX0_setWays_100 : decode cX0_setWays 100 = .ok (.iconst 1, 1) := dk_4 (dk_at dksX0_setWays_4 6 rfl rfl)
theorem dX0_setWays_101 : decode cX0_setWays 101 = .ok (.ireturn, 1) := dk_172 (dk_at dksX0_setWays_4 7 rfl rfl)
abbrev cX0_come : ByteArray := prog_1_method_17_code
def yX0_come : MethodName := ⟨RX0, "come", "(I[II)V"⟩
def dkwX0_come_0 : List UInt8 := [42, 180, 0, 34, 27, 29, 188, 10, 83, 44, 3, 42, 180, 0, 34, 27, 50, 3, 29, 184, 0, 118, 177]
abbrev dktX0_come_0 : List UInt8 := dkwX0_come_0 ++ []
theorem dksX0_come_0 : cX0_come.data.toList.drop 0 = dktX0_come_0 := by decide +kernel
theorem dX0_come_0 : decode cX0_come 0 = .ok (.aload_n 0, 1) := dk_42 (dk_at dksX0_come_0 0 rfl rfl)
theorem dX0_come_1 : decode cX0_come 1 = .ok (.getfield 34, 3) := dk_180 0 34 (dk_at dksX0_come_0 1 rfl rfl)
theorem dX0_come_4 : decode cX0_come 4 = .ok (.iload_n 1, 1) := dk_27 (dk_at dksX0_come_0 4 rfl rfl)
theorem dX0_come_5 : decode cX0_come 5 = .ok (.iload_n 3, 1) := dk_29 (dk_at dksX0_come_0 5 rfl rfl)
theorem dX0_come_6 : decode cX0_come 6 = .ok (.newarray .int, 2) := dk_188_10 (dk_at dksX0_come_0 6 rfl rfl)
theorem dX0_come_8 : decode cX0_come 8 = .ok (.aastore, 1) := dk_83 (dk_at dksX0_come_0 8 rfl rfl)
theorem dX0_come_9 : decode cX0_come 9 = .ok (.aload_n 2, 1) := dk_44 (dk_at dksX0_come_0 9 rfl rfl)
theorem dX0_come_10 : decode cX0_come 10 = .ok (.iconst 0, 1) := dk_3 (dk_at dksX0_come_0 10 rfl rfl)
theorem dX0_come_11 : decode cX0_come 11 = .ok (.aload_n 0, 1) := dk_42 (dk_at dksX0_come_0 11 rfl rfl)
theorem dX0_come_12 : decode cX0_come 12 = .ok (.getfield 34, 3) := dk_180 0 34 (dk_at dksX0_come_0 12 rfl rfl)
theorem dX0_come_15 : decode cX0_come 15 = .ok (.iload_n 1, 1) := dk_27 (dk_at dksX0_come_0 15 rfl rfl)
theorem dX0_come_16 : decode cX0_come 16 = .ok (.aaload, 1) := dk_50 (dk_at dksX0_come_0 16 rfl rfl)
theorem dX0_come_17 : decode cX0_come 17 = .ok (.iconst 0, 1) := dk_3 (dk_at dksX0_come_0 17 rfl rfl)
theorem dX0_come_18 : decode cX0_come 18 = .ok (.iload_n 3, 1) := dk_29 (dk_at dksX0_come_0 18 rfl rfl)
theorem dX0_come_19 : decode cX0_come 19 = .ok (.invokestatic 118, 3) := dk_184 0 118 (dk_at dksX0_come_0 19 rfl rfl)
theorem dX0_come_22 : decode cX0_come 22 = .ok (.return_, 1) := dk_177 (dk_at dksX0_come_0 22 rfl rfl)
abbrev cX0_places : ByteArray := prog_1_method_47_code
def yX0_places : MethodName := ⟨RX0, "places", "(IIZ)I"⟩
def dkwX0_places_6 : List UInt8 := [167, 255, 176, 132, 7, 1, 167, 255, 150, 42, 22, 5, 22, 5, 184, 0, 243, 182, 0, 231, 172]
abbrev dktX0_places_6 : List UInt8 := dkwX0_places_6 ++ []
def dkwX0_places_5 : List UInt8 := [42, 180, 0, 62, 21, 7, 46, 160, 0, 10, 10, 21, 8, 121, 167, 0, 4, 9, 129, 55, 5, 132, 8, 1]
abbrev dktX0_places_5 : List UInt8 := dkwX0_places_5 ++ dktX0_places_6
def dkwX0_places_4 : List UInt8 := [167, 0, 4, 3, 54, 9, 22, 5, 21, 9, 153, 0, 31, 29, 153, 0, 20, 42, 180, 0, 59, 21, 7, 46]
abbrev dktX0_places_4 : List UInt8 := dkwX0_places_4 ++ dktX0_places_5
def dkwX0_places_3 : List UInt8 := [46, 163, 0, 74, 42, 27, 182, 0, 188, 21, 8, 51, 42, 28, 182, 0, 188, 21, 7, 51, 160, 0, 7, 4]
abbrev dktX0_places_3 : List UInt8 := dkwX0_places_3 ++ dktX0_places_4
def dkwX0_places_2 : List UInt8 := [182, 0, 188, 190, 162, 0, 101, 42, 180, 0, 59, 21, 7, 46, 54, 8, 21, 8, 42, 180, 0, 62, 21, 7]
abbrev dktX0_places_2 : List UInt8 := dkwX0_places_2 ++ dktX0_places_3
def dkwX0_places_1 : List UInt8 := [182, 0, 188, 182, 0, 235, 154, 0, 6, 16, 247, 172, 9, 55, 5, 3, 54, 7, 21, 7, 42, 28]
abbrev dktX0_places_1 : List UInt8 := dkwX0_places_1 ++ dktX0_places_2
def dkwX0_places_0 : List UInt8 := [42, 27, 28, 182, 0, 185, 54, 4, 21, 4, 156, 0, 6, 21, 4, 172, 42, 42, 27, 182, 0, 188, 42, 28]
abbrev dktX0_places_0 : List UInt8 := dkwX0_places_0 ++ dktX0_places_1
theorem dksX0_places_0 : cX0_places.data.toList.drop 0 = dktX0_places_0 := by decide +kernel
theorem dksX0_places_1 : cX0_places.data.toList.drop 24 = dktX0_places_1 := dk_seg dksX0_places_0 24 rfl rfl
theorem dksX0_places_2 : cX0_places.data.toList.drop 46 = dktX0_places_2 := dk_seg dksX0_places_1 22 rfl rfl
theorem dksX0_places_3 : cX0_places.data.toList.drop 70 = dktX0_places_3 := dk_seg dksX0_places_2 24 rfl rfl
theorem dksX0_places_4 : cX0_places.data.toList.drop 94 = dktX0_places_4 := dk_seg dksX0_places_3 24 rfl rfl
theorem dksX0_places_5 : cX0_places.data.toList.drop 118 = dktX0_places_5 := dk_seg dksX0_places_4 24 rfl rfl
theorem dksX0_places_6 : cX0_places.data.toList.drop 142 = dktX0_places_6 := dk_seg dksX0_places_5 24 rfl rfl
theorem dX0_places_0 : decode cX0_places 0 = .ok (.aload_n 0, 1) := dk_42 (dk_at dksX0_places_0 0 rfl rfl)
theorem dX0_places_1 : decode cX0_places 1 = .ok (.iload_n 1, 1) := dk_27 (dk_at dksX0_places_0 1 rfl rfl)
theorem dX0_places_2 : decode cX0_places 2 = .ok (.iload_n 2, 1) := dk_28 (dk_at dksX0_places_0 2 rfl rfl)
theorem dX0_places_3 : decode cX0_places 3 = .ok (.invokevirtual 185, 3) := dk_182 0 185 (dk_at dksX0_places_0 3 rfl rfl)
theorem dX0_places_6 : decode cX0_places 6 = .ok (.istore 4, 2) := dk_54 4 (dk_at dksX0_places_0 6 rfl rfl)
theorem dX0_places_8 : decode cX0_places 8 = .ok (.iload 4, 2) := dk_21 4 (dk_at dksX0_places_0 8 rfl rfl)
theorem dX0_places_10 : decode cX0_places 10 = .ok (.ifCond .ge 6, 3) := dk_156 0 6 (dk_at dksX0_places_0 10 rfl rfl)
theorem dX0_places_13 : decode cX0_places 13 = .ok (.iload 4, 2) := dk_21 4 (dk_at dksX0_places_0 13 rfl rfl)
theorem dX0_places_15 : decode cX0_places 15 = .ok (.ireturn, 1) := dk_172 (dk_at dksX0_places_0 15 rfl rfl)
theorem dX0_places_16 : decode cX0_places 16 = .ok (.aload_n 0, 1) := dk_42 (dk_at dksX0_places_0 16 rfl rfl)
theorem dX0_places_17 : decode cX0_places 17 = .ok (.aload_n 0, 1) := dk_42 (dk_at dksX0_places_0 17 rfl rfl)
theorem dX0_places_18 : decode cX0_places 18 = .ok (.iload_n 1, 1) := dk_27 (dk_at dksX0_places_0 18 rfl rfl)
theorem dX0_places_19 : decode cX0_places 19 = .ok (.invokevirtual 188, 3) := dk_182 0 188 (dk_at dksX0_places_0 19 rfl rfl)
theorem dX0_places_22 : decode cX0_places 22 = .ok (.aload_n 0, 1) := dk_42 (dk_at dksX0_places_0 22 rfl rfl)
theorem dX0_places_23 : decode cX0_places 23 = .ok (.iload_n 2, 1) := dk_28 (dk_at dksX0_places_0 23 rfl rfl)
theorem dX0_places_24 : decode cX0_places 24 = .ok (.invokevirtual 188, 3) := dk_182 0 188 (dk_at dksX0_places_1 0 rfl rfl)
theorem dX0_places_27 : decode cX0_places 27 = .ok (.invokevirtual 235, 3) := dk_182 0 235 (dk_at dksX0_places_1 3 rfl rfl)
theorem dX0_places_30 : decode cX0_places 30 = .ok (.ifCond .ne 6, 3) := dk_154 0 6 (dk_at dksX0_places_1 6 rfl rfl)
theorem dX0_places_33 : decode cX0_places 33 = .ok (.bipush (-9), 2) := dk_16 247 (dk_at dksX0_places_1 9 rfl rfl)
theorem dX0_places_35 : decode cX0_places 35 = .ok (.ireturn, 1) := dk_172 (dk_at dksX0_places_1 11 rfl rfl)
theorem dX0_places_36 : decode cX0_places 36 = .ok (.lconst 0, 1) := dk_9 (dk_at dksX0_places_1 12 rfl rfl)
theorem dX0_places_37 : decode cX0_places 37 = .ok (.lstore 5, 2) := dk_55 5 (dk_at dksX0_places_1 13 rfl rfl)
theorem dX0_places_39 : decode cX0_places 39 = .ok (.iconst 0, 1) := dk_3 (dk_at dksX0_places_1 15 rfl rfl)
theorem dX0_places_40 : decode cX0_places 40 = .ok (.istore 7, 2) := dk_54 7 (dk_at dksX0_places_1 16 rfl rfl)
theorem dX0_places_42 : decode cX0_places 42 = .ok (.iload 7, 2) := dk_21 7 (dk_at dksX0_places_1 18 rfl rfl)
theorem dX0_places_44 : decode cX0_places 44 = .ok (.aload_n 0, 1) := dk_42 (dk_at dksX0_places_1 20 rfl rfl)
theorem dX0_places_45 : decode cX0_places 45 = .ok (.iload_n 2, 1) := dk_28 (dk_at dksX0_places_1 21 rfl rfl)
theorem dX0_places_46 : decode cX0_places 46 = .ok (.invokevirtual 188, 3) := dk_182 0 188 (dk_at dksX0_places_2 0 rfl rfl)
theorem dX0_places_49 : decode cX0_places 49 = .ok (.arraylength, 1) := dk_190 (dk_at dksX0_places_2 3 rfl rfl)
theorem dX0_places_50 : decode cX0_places 50 = .ok (.if_icmp .ge 101, 3) := dk_162 0 101 (dk_at dksX0_places_2 4 rfl rfl)
theorem dX0_places_53 : decode cX0_places 53 = .ok (.aload_n 0, 1) := dk_42 (dk_at dksX0_places_2 7 rfl rfl)
theorem dX0_places_54 : decode cX0_places 54 = .ok (.getfield 59, 3) := dk_180 0 59 (dk_at dksX0_places_2 8 rfl rfl)
theorem dX0_places_57 : decode cX0_places 57 = .ok (.iload 7, 2) := dk_21 7 (dk_at dksX0_places_2 11 rfl rfl)
theorem dX0_places_59 : decode cX0_places 59 = .ok (.iaload, 1) := dk_46 (dk_at dksX0_places_2 13 rfl rfl)
theorem dX0_places_60 : decode cX0_places 60 = .ok (.istore 8, 2) := dk_54 8 (dk_at dksX0_places_2 14 rfl rfl)
theorem dX0_places_62 : decode cX0_places 62 = .ok (.iload 8, 2) := dk_21 8 (dk_at dksX0_places_2 16 rfl rfl)
theorem dX0_places_64 : decode cX0_places 64 = .ok (.aload_n 0, 1) := dk_42 (dk_at dksX0_places_2 18 rfl rfl)
theorem dX0_places_65 : decode cX0_places 65 = .ok (.getfield 62, 3) := dk_180 0 62 (dk_at dksX0_places_2 19 rfl rfl)
theorem dX0_places_68 : decode cX0_places 68 = .ok (.iload 7, 2) := dk_21 7 (dk_at dksX0_places_2 22 rfl rfl)
theorem dX0_places_70 : decode cX0_places 70 = .ok (.iaload, 1) := dk_46 (dk_at dksX0_places_3 0 rfl rfl)
theorem dX0_places_71 : decode cX0_places 71 = .ok (.if_icmp .gt 74, 3) := dk_163 0 74 (dk_at dksX0_places_3 1 rfl rfl)
theorem dX0_places_74 : decode cX0_places 74 = .ok (.aload_n 0, 1) := dk_42 (dk_at dksX0_places_3 4 rfl rfl)
theorem dX0_places_75 : decode cX0_places 75 = .ok (.iload_n 1, 1) := dk_27 (dk_at dksX0_places_3 5 rfl rfl)
theorem dX0_places_76 : decode cX0_places 76 = .ok (.invokevirtual 188, 3) := dk_182 0 188 (dk_at dksX0_places_3 6 rfl rfl)
theorem dX0_places_79 : decode cX0_places 79 = .ok (.iload 8, 2) := dk_21 8 (dk_at dksX0_places_3 9 rfl rfl)
theorem dX0_places_81 : decode cX0_places 81 = .ok (.baload, 1) := dk_51 (dk_at dksX0_places_3 11 rfl rfl)
theorem dX0_places_82 : decode cX0_places 82 = .ok (.aload_n 0, 1) := dk_42 (dk_at dksX0_places_3 12 rfl rfl)
theorem dX0_places_83 : decode cX0_places 83 = .ok (.iload_n 2, 1) := dk_28 (dk_at dksX0_places_3 13 rfl rfl)
theorem dX0_places_84 : decode cX0_places 84 = .ok (.invokevirtual 188, 3) := dk_182 0 188 (dk_at dksX0_places_3 14 rfl rfl)
theorem dX0_places_87 : decode cX0_places 87 = .ok (.iload 7, 2) := dk_21 7 (dk_at dksX0_places_3 17 rfl rfl)
theorem dX0_places_89 : decode cX0_places 89 = .ok (.baload, 1) := dk_51 (dk_at dksX0_places_3 19 rfl rfl)
theorem dX0_places_90 : decode cX0_places 90 = .ok (.if_icmp .ne 7, 3) := dk_160 0 7 (dk_at dksX0_places_3 20 rfl rfl)
theorem dX0_places_93 : decode cX0_places 93 = .ok (.iconst 1, 1) := dk_4 (dk_at dksX0_places_3 23 rfl rfl)
theorem dX0_places_94 : decode cX0_places 94 = .ok (.goto 4, 3) := dk_167 0 4 (dk_at dksX0_places_4 0 rfl rfl)
theorem dX0_places_97 : decode cX0_places 97 = .ok (.iconst 0, 1) := dk_3 (dk_at dksX0_places_4 3 rfl rfl)
theorem dX0_places_98 : decode cX0_places 98 = .ok (.istore 9, 2) := dk_54 9 (dk_at dksX0_places_4 4 rfl rfl)
theorem dX0_places_100 : decode cX0_places 100 = .ok (.lload 5, 2) := dk_22 5 (dk_at dksX0_places_4 6 rfl rfl)
theorem dX0_places_102 : decode cX0_places 102 = .ok (.iload 9, 2) := dk_21 9 (dk_at dksX0_places_4 8 rfl rfl)
theorem dX0_places_104 : decode cX0_places 104 = .ok (.ifCond .eq 31, 3) := dk_153 0 31 (dk_at dksX0_places_4 10 rfl rfl)
theorem dX0_places_107 : decode cX0_places 107 = .ok (.iload_n 3, 1) := dk_29 (dk_at dksX0_places_4 13 rfl rfl)
theorem dX0_places_108 : decode cX0_places 108 = .ok (.ifCond .eq 20, 3) := dk_153 0 20 (dk_at dksX0_places_4 14 rfl rfl)
theorem dX0_places_111 : decode cX0_places 111 = .ok (.aload_n 0, 1) := dk_42 (dk_at dksX0_places_4 17 rfl rfl)
theorem dX0_places_112 : decode cX0_places 112 = .ok (.getfield 59, 3) := dk_180 0 59 (dk_at dksX0_places_4 18 rfl rfl)
theorem dX0_places_115 : decode cX0_places 115 = .ok (.iload 7, 2) := dk_21 7 (dk_at dksX0_places_4 21 rfl rfl)
theorem dX0_places_117 : decode cX0_places 117 = .ok (.iaload, 1) := dk_46 (dk_at dksX0_places_4 23 rfl rfl)
theorem dX0_places_118 : decode cX0_places 118 = .ok (.aload_n 0, 1) := dk_42 (dk_at dksX0_places_5 0 rfl rfl)
theorem dX0_places_119 : decode cX0_places 119 = .ok (.getfield 62, 3) := dk_180 0 62 (dk_at dksX0_places_5 1 rfl rfl)
theorem dX0_places_122 : decode cX0_places 122 = .ok (.iload 7, 2) := dk_21 7 (dk_at dksX0_places_5 4 rfl rfl)
theorem dX0_places_124 : decode cX0_places 124 = .ok (.iaload, 1) := dk_46 (dk_at dksX0_places_5 6 rfl rfl)
theorem dX0_places_125 : decode cX0_places 125 = .ok (.if_icmp .ne 10, 3) := dk_160 0 10 (dk_at dksX0_places_5 7 rfl rfl)
theorem dX0_places_128 : decode cX0_places 128 = .ok (.lconst 1, 1) := dk_10 (dk_at dksX0_places_5 10 rfl rfl)
theorem dX0_places_129 : decode cX0_places 129 = .ok (.iload 8, 2) := dk_21 8 (dk_at dksX0_places_5 11 rfl rfl)
theorem dX0_places_131 : decode cX0_places 131 = .ok (.lshl, 1) := dk_121 (dk_at dksX0_places_5 13 rfl rfl)
theorem dX0_places_132 : decode cX0_places 132 = .ok (.goto 4, 3) := dk_167 0 4 (dk_at dksX0_places_5 14 rfl rfl)
theorem dX0_places_135 : decode cX0_places 135 = .ok (.lconst 0, 1) := dk_9 (dk_at dksX0_places_5 17 rfl rfl)
theorem dX0_places_136 : decode cX0_places 136 = .ok (.lor, 1) := dk_129 (dk_at dksX0_places_5 18 rfl rfl)
theorem dX0_places_137 : decode cX0_places 137 = .ok (.lstore 5, 2) := dk_55 5 (dk_at dksX0_places_5 19 rfl rfl)
theorem dX0_places_139 : decode cX0_places 139 = .ok (.iinc 8 1, 3) := dk_132 8 1 (dk_at dksX0_places_5 21 rfl rfl)
theorem dX0_places_142 : decode cX0_places 142 = .ok (.goto (-80), 3) := dk_167 255 176 (dk_at dksX0_places_6 0 rfl rfl)
theorem dX0_places_145 : decode cX0_places 145 = .ok (.iinc 7 1, 3) := dk_132 7 1 (dk_at dksX0_places_6 3 rfl rfl)
theorem dX0_places_148 : decode cX0_places 148 = .ok (.goto (-106), 3) := dk_167 255 150 (dk_at dksX0_places_6 6 rfl rfl)
theorem dX0_places_151 : decode cX0_places 151 = .ok (.aload_n 0, 1) := dk_42 (dk_at dksX0_places_6 9 rfl rfl)
theorem dX0_places_152 : decode cX0_places 152 = .ok (.lload 5, 2) := dk_22 5 (dk_at dksX0_places_6 10 rfl rfl)
theorem dX0_places_154 : decode cX0_places 154 = .ok (.lload 5, 2) := dk_22 5 (dk_at dksX0_places_6 12 rfl rfl)
theorem dX0_places_156 : decode cX0_places 156 = .ok (.invokestatic 243, 3) := dk_184 0 243 (dk_at dksX0_places_6 14 rfl rfl)
theorem dX0_places_159 : decode cX0_places 159 = .ok (.invokevirtual 231, 3) := dk_182 0 231 (dk_at dksX0_places_6 17 rfl rfl)
theorem dX0_places_162 : decode cX0_places 162 = .ok (.ireturn, 1) := dk_172 (dk_at dksX0_places_6 20 rfl rfl)
abbrev cX0_judge : ByteArray := prog_1_method_48_code
def yX0_judge : MethodName := ⟨RX0, "judge", "(III)I"⟩
def dkwX0_judge_6 : List UInt8 := [21, 8, 54, 6, 132, 7, 1, 167, 255, 177, 21, 5, 153, 0, 7, 4, 167, 0, 4, 3, 172]
abbrev dktX0_judge_6 : List UInt8 := dkwX0_judge_6 ++ []
def dkwX0_judge_5 : List UInt8 := [182, 0, 188, 21, 8, 51, 42, 28, 182, 0, 188, 21, 7, 51, 160, 0, 7, 4, 167, 0, 4, 3, 54, 5]
abbrev dktX0_judge_5 : List UInt8 := dkwX0_judge_5 ++ dktX0_judge_6
def dkwX0_judge_4 : List UInt8 := [54, 8, 21, 8, 21, 6, 164, 0, 37, 21, 8, 42, 27, 182, 0, 188, 190, 162, 0, 26, 42, 27]
abbrev dktX0_judge_4 : List UInt8 := dkwX0_judge_4 ++ dktX0_judge_5
def dkwX0_judge_3 : List UInt8 := [153, 0, 80, 21, 7, 42, 180, 0, 34, 29, 50, 190, 162, 0, 68, 42, 180, 0, 34, 29, 50, 21, 7, 46]
abbrev dktX0_judge_3 : List UInt8 := dkwX0_judge_3 ++ dktX0_judge_4
def dkwX0_judge_2 : List UInt8 := [28, 182, 0, 188, 190, 160, 0, 7, 4, 167, 0, 4, 3, 54, 5, 2, 54, 6, 3, 54, 7, 21, 5]
abbrev dktX0_judge_2 : List UInt8 := dkwX0_judge_2 ++ dktX0_judge_3
def dkwX0_judge_1 : List UInt8 := [172, 42, 180, 0, 34, 29, 50, 199, 0, 9, 42, 4, 182, 0, 103, 172, 42, 180, 0, 34, 29, 50, 190, 42]
abbrev dktX0_judge_1 : List UInt8 := dkwX0_judge_1 ++ dktX0_judge_2
def dkwX0_judge_0 : List UInt8 := [29, 184, 0, 97, 154, 0, 5, 2, 172, 42, 27, 28, 182, 0, 185, 54, 4, 21, 4, 156, 0, 6, 21, 4]
abbrev dktX0_judge_0 : List UInt8 := dkwX0_judge_0 ++ dktX0_judge_1
theorem dksX0_judge_0 : cX0_judge.data.toList.drop 0 = dktX0_judge_0 := by decide +kernel
theorem dksX0_judge_1 : cX0_judge.data.toList.drop 24 = dktX0_judge_1 := dk_seg dksX0_judge_0 24 rfl rfl
theorem dksX0_judge_2 : cX0_judge.data.toList.drop 48 = dktX0_judge_2 := dk_seg dksX0_judge_1 24 rfl rfl
theorem dksX0_judge_3 : cX0_judge.data.toList.drop 71 = dktX0_judge_3 := dk_seg dksX0_judge_2 23 rfl rfl
theorem dksX0_judge_4 : cX0_judge.data.toList.drop 95 = dktX0_judge_4 := dk_seg dksX0_judge_3 24 rfl rfl
theorem dksX0_judge_5 : cX0_judge.data.toList.drop 117 = dktX0_judge_5 := dk_seg dksX0_judge_4 22 rfl rfl
theorem dksX0_judge_6 : cX0_judge.data.toList.drop 141 = dktX0_judge_6 := dk_seg dksX0_judge_5 24 rfl rfl
theorem dX0_judge_0 : decode cX0_judge 0 = .ok (.iload_n 3, 1) := dk_29 (dk_at dksX0_judge_0 0 rfl rfl)
theorem dX0_judge_1 : decode cX0_judge 1 = .ok (.invokestatic 97, 3) := dk_184 0 97 (dk_at dksX0_judge_0 1 rfl rfl)
theorem dX0_judge_4 : decode cX0_judge 4 = .ok (.ifCond .ne 5, 3) := dk_154 0 5 (dk_at dksX0_judge_0 4 rfl rfl)
theorem dX0_judge_7 : decode cX0_judge 7 = .ok (.iconst (-1), 1) := dk_2 (dk_at dksX0_judge_0 7 rfl rfl)
theorem dX0_judge_8 : decode cX0_judge 8 = .ok (.ireturn, 1) := dk_172 (dk_at dksX0_judge_0 8 rfl rfl)
theorem dX0_judge_9 : decode cX0_judge 9 = .ok (.aload_n 0, 1) := dk_42 (dk_at dksX0_judge_0 9 rfl rfl)
theorem dX0_judge_10 : decode cX0_judge 10 = .ok (.iload_n 1, 1) := dk_27 (dk_at dksX0_judge_0 10 rfl rfl)
theorem dX0_judge_11 : decode cX0_judge 11 = .ok (.iload_n 2, 1) := dk_28 (dk_at dksX0_judge_0 11 rfl rfl)
theorem dX0_judge_12 : decode cX0_judge 12 = .ok (.invokevirtual 185, 3) := dk_182 0 185 (dk_at dksX0_judge_0 12 rfl rfl)
theorem dX0_judge_15 : decode cX0_judge 15 = .ok (.istore 4, 2) := dk_54 4 (dk_at dksX0_judge_0 15 rfl rfl)
theorem dX0_judge_17 : decode cX0_judge 17 = .ok (.iload 4, 2) := dk_21 4 (dk_at dksX0_judge_0 17 rfl rfl)
theorem dX0_judge_19 : decode cX0_judge 19 = .ok (.ifCond .ge 6, 3) := dk_156 0 6 (dk_at dksX0_judge_0 19 rfl rfl)
theorem dX0_judge_22 : decode cX0_judge 22 = .ok (.iload 4, 2) := dk_21 4 (dk_at dksX0_judge_0 22 rfl rfl)
theorem dX0_judge_24 : decode cX0_judge 24 = .ok (.ireturn, 1) := dk_172 (dk_at dksX0_judge_1 0 rfl rfl)
theorem dX0_judge_25 : decode cX0_judge 25 = .ok (.aload_n 0, 1) := dk_42 (dk_at dksX0_judge_1 1 rfl rfl)
theorem dX0_judge_26 : decode cX0_judge 26 = .ok (.getfield 34, 3) := dk_180 0 34 (dk_at dksX0_judge_1 2 rfl rfl)
theorem dX0_judge_29 : decode cX0_judge 29 = .ok (.iload_n 3, 1) := dk_29 (dk_at dksX0_judge_1 5 rfl rfl)
theorem dX0_judge_30 : decode cX0_judge 30 = .ok (.aaload, 1) := dk_50 (dk_at dksX0_judge_1 6 rfl rfl)
theorem dX0_judge_31 : decode cX0_judge 31 = .ok (.ifnonnull 9, 3) := dk_199 0 9 (dk_at dksX0_judge_1 7 rfl rfl)
theorem dX0_judge_34 : decode cX0_judge 34 = .ok (.aload_n 0, 1) := dk_42 (dk_at dksX0_judge_1 10 rfl rfl)
theorem dX0_judge_35 : decode cX0_judge 35 = .ok (.iconst 1, 1) := dk_4 (dk_at dksX0_judge_1 11 rfl rfl)
theorem dX0_judge_36 : decode cX0_judge 36 = .ok (.invokevirtual 103, 3) := dk_182 0 103 (dk_at dksX0_judge_1 12 rfl rfl)
theorem dX0_judge_39 : decode cX0_judge 39 = .ok (.ireturn, 1) := dk_172 (dk_at dksX0_judge_1 15 rfl rfl)
theorem dX0_judge_40 : decode cX0_judge 40 = .ok (.aload_n 0, 1) := dk_42 (dk_at dksX0_judge_1 16 rfl rfl)
theorem dX0_judge_41 : decode cX0_judge 41 = .ok (.getfield 34, 3) := dk_180 0 34 (dk_at dksX0_judge_1 17 rfl rfl)
theorem dX0_judge_44 : decode cX0_judge 44 = .ok (.iload_n 3, 1) := dk_29 (dk_at dksX0_judge_1 20 rfl rfl)
theorem dX0_judge_45 : decode cX0_judge 45 = .ok (.aaload, 1) := dk_50 (dk_at dksX0_judge_1 21 rfl rfl)
theorem dX0_judge_46 : decode cX0_judge 46 = .ok (.arraylength, 1) := dk_190 (dk_at dksX0_judge_1 22 rfl rfl)
theorem dX0_judge_47 : decode cX0_judge 47 = .ok (.aload_n 0, 1) := dk_42 (dk_at dksX0_judge_1 23 rfl rfl)
theorem dX0_judge_48 : decode cX0_judge 48 = .ok (.iload_n 2, 1) := dk_28 (dk_at dksX0_judge_2 0 rfl rfl)
theorem dX0_judge_49 : decode cX0_judge 49 = .ok (.invokevirtual 188, 3) := dk_182 0 188 (dk_at dksX0_judge_2 1 rfl rfl)
theorem dX0_judge_52 : decode cX0_judge 52 = .ok (.arraylength, 1) := dk_190 (dk_at dksX0_judge_2 4 rfl rfl)
theorem dX0_judge_53 : decode cX0_judge 53 = .ok (.if_icmp .ne 7, 3) := dk_160 0 7 (dk_at dksX0_judge_2 5 rfl rfl)
theorem dX0_judge_56 : decode cX0_judge 56 = .ok (.iconst 1, 1) := dk_4 (dk_at dksX0_judge_2 8 rfl rfl)
theorem dX0_judge_57 : decode cX0_judge 57 = .ok (.goto 4, 3) := dk_167 0 4 (dk_at dksX0_judge_2 9 rfl rfl)
theorem dX0_judge_60 : decode cX0_judge 60 = .ok (.iconst 0, 1) := dk_3 (dk_at dksX0_judge_2 12 rfl rfl)
theorem dX0_judge_61 : decode cX0_judge 61 = .ok (.istore 5, 2) := dk_54 5 (dk_at dksX0_judge_2 13 rfl rfl)
theorem dX0_judge_63 : decode cX0_judge 63 = .ok (.iconst (-1), 1) := dk_2 (dk_at dksX0_judge_2 15 rfl rfl)
theorem dX0_judge_64 : decode cX0_judge 64 = .ok (.istore 6, 2) := dk_54 6 (dk_at dksX0_judge_2 16 rfl rfl)
theorem dX0_judge_66 : decode cX0_judge 66 = .ok (.iconst 0, 1) := dk_3 (dk_at dksX0_judge_2 18 rfl rfl)
theorem dX0_judge_67 : decode cX0_judge 67 = .ok (.istore 7, 2) := dk_54 7 (dk_at dksX0_judge_2 19 rfl rfl)
theorem dX0_judge_69 : decode cX0_judge 69 = .ok (.iload 5, 2) := dk_21 5 (dk_at dksX0_judge_2 21 rfl rfl)
theorem dX0_judge_71 : decode cX0_judge 71 = .ok (.ifCond .eq 80, 3) := dk_153 0 80 (dk_at dksX0_judge_3 0 rfl rfl)
theorem dX0_judge_74 : decode cX0_judge 74 = .ok (.iload 7, 2) := dk_21 7 (dk_at dksX0_judge_3 3 rfl rfl)
theorem dX0_judge_76 : decode cX0_judge 76 = .ok (.aload_n 0, 1) := dk_42 (dk_at dksX0_judge_3 5 rfl rfl)
theorem dX0_judge_77 : decode cX0_judge 77 = .ok (.getfield 34, 3) := dk_180 0 34 (dk_at dksX0_judge_3 6 rfl rfl)
theorem dX0_judge_80 : decode cX0_judge 80 = .ok (.iload_n 3, 1) := dk_29 (dk_at dksX0_judge_3 9 rfl rfl)
theorem dX0_judge_81 : decode cX0_judge 81 = .ok (.aaload, 1) := dk_50 (dk_at dksX0_judge_3 10 rfl rfl)
theorem dX0_judge_82 : decode cX0_judge 82 = .ok (.arraylength, 1) := dk_190 (dk_at dksX0_judge_3 11 rfl rfl)
theorem dX0_judge_83 : decode cX0_judge 83 = .ok (.if_icmp .ge 68, 3) := dk_162 0 68 (dk_at dksX0_judge_3 12 rfl rfl)
theorem dX0_judge_86 : decode cX0_judge 86 = .ok (.aload_n 0, 1) := dk_42 (dk_at dksX0_judge_3 15 rfl rfl)
theorem dX0_judge_87 : decode cX0_judge 87 = .ok (.getfield 34, 3) := dk_180 0 34 (dk_at dksX0_judge_3 16 rfl rfl)
theorem dX0_judge_90 : decode cX0_judge 90 = .ok (.iload_n 3, 1) := dk_29 (dk_at dksX0_judge_3 19 rfl rfl)
theorem dX0_judge_91 : decode cX0_judge 91 = .ok (.aaload, 1) := dk_50 (dk_at dksX0_judge_3 20 rfl rfl)
theorem dX0_judge_92 : decode cX0_judge 92 = .ok (.iload 7, 2) := dk_21 7 (dk_at dksX0_judge_3 21 rfl rfl)
theorem dX0_judge_94 : decode cX0_judge 94 = .ok (.iaload, 1) := dk_46 (dk_at dksX0_judge_3 23 rfl rfl)
theorem dX0_judge_95 : decode cX0_judge 95 = .ok (.istore 8, 2) := dk_54 8 (dk_at dksX0_judge_4 0 rfl rfl)
theorem dX0_judge_97 : decode cX0_judge 97 = .ok (.iload 8, 2) := dk_21 8 (dk_at dksX0_judge_4 2 rfl rfl)
theorem dX0_judge_99 : decode cX0_judge 99 = .ok (.iload 6, 2) := dk_21 6 (dk_at dksX0_judge_4 4 rfl rfl)
theorem dX0_judge_101 : decode cX0_judge 101 = .ok (.if_icmp .le 37, 3) := dk_164 0 37 (dk_at dksX0_judge_4 6 rfl rfl)
theorem dX0_judge_104 : decode cX0_judge 104 = .ok (.iload 8, 2) := dk_21 8 (dk_at dksX0_judge_4 9 rfl rfl)
theorem dX0_judge_106 : decode cX0_judge 106 = .ok (.aload_n 0, 1) := dk_42 (dk_at dksX0_judge_4 11 rfl rfl)
theorem dX0_judge_107 : decode cX0_judge 107 = .ok (.iload_n 1, 1) := dk_27 (dk_at dksX0_judge_4 12 rfl rfl)
theorem dX0_judge_108 : decode cX0_judge 108 = .ok (.invokevirtual 188, 3) := dk_182 0 188 (dk_at dksX0_judge_4 13 rfl rfl)
theorem dX0_judge_111 : decode cX0_judge 111 = .ok (.arraylength, 1) := dk_190 (dk_at dksX0_judge_4 16 rfl rfl)
theorem dX0_judge_112 : decode cX0_judge 112 = .ok (.if_icmp .ge 26, 3) := dk_162 0 26 (dk_at dksX0_judge_4 17 rfl rfl)
theorem dX0_judge_115 : decode cX0_judge 115 = .ok (.aload_n 0, 1) := dk_42 (dk_at dksX0_judge_4 20 rfl rfl)
theorem dX0_judge_116 : decode cX0_judge 116 = .ok (.iload_n 1, 1) := dk_27 (dk_at dksX0_judge_4 21 rfl rfl)
theorem dX0_judge_117 : decode cX0_judge 117 = .ok (.invokevirtual 188, 3) := dk_182 0 188 (dk_at dksX0_judge_5 0 rfl rfl)
theorem dX0_judge_120 : decode cX0_judge 120 = .ok (.iload 8, 2) := dk_21 8 (dk_at dksX0_judge_5 3 rfl rfl)
theorem dX0_judge_122 : decode cX0_judge 122 = .ok (.baload, 1) := dk_51 (dk_at dksX0_judge_5 5 rfl rfl)
theorem dX0_judge_123 : decode cX0_judge 123 = .ok (.aload_n 0, 1) := dk_42 (dk_at dksX0_judge_5 6 rfl rfl)
theorem dX0_judge_124 : decode cX0_judge 124 = .ok (.iload_n 2, 1) := dk_28 (dk_at dksX0_judge_5 7 rfl rfl)
theorem dX0_judge_125 : decode cX0_judge 125 = .ok (.invokevirtual 188, 3) := dk_182 0 188 (dk_at dksX0_judge_5 8 rfl rfl)
theorem dX0_judge_128 : decode cX0_judge 128 = .ok (.iload 7, 2) := dk_21 7 (dk_at dksX0_judge_5 11 rfl rfl)
theorem dX0_judge_130 : decode cX0_judge 130 = .ok (.baload, 1) := dk_51 (dk_at dksX0_judge_5 13 rfl rfl)
theorem dX0_judge_131 : decode cX0_judge 131 = .ok (.if_icmp .ne 7, 3) := dk_160 0 7 (dk_at dksX0_judge_5 14 rfl rfl)
theorem dX0_judge_134 : decode cX0_judge 134 = .ok (.iconst 1, 1) := dk_4 (dk_at dksX0_judge_5 17 rfl rfl)
theorem dX0_judge_135 : decode cX0_judge 135 = .ok (.goto 4, 3) := dk_167 0 4 (dk_at dksX0_judge_5 18 rfl rfl)
theorem dX0_judge_138 : decode cX0_judge 138 = .ok (.iconst 0, 1) := dk_3 (dk_at dksX0_judge_5 21 rfl rfl)
theorem dX0_judge_139 : decode cX0_judge 139 = .ok (.istore 5, 2) := dk_54 5 (dk_at dksX0_judge_5 22 rfl rfl)
theorem dX0_judge_141 : decode cX0_judge 141 = .ok (.iload 8, 2) := dk_21 8 (dk_at dksX0_judge_6 0 rfl rfl)
theorem dX0_judge_143 : decode cX0_judge 143 = .ok (.istore 6, 2) := dk_54 6 (dk_at dksX0_judge_6 2 rfl rfl)
theorem dX0_judge_145 : decode cX0_judge 145 = .ok (.iinc 7 1, 3) := dk_132 7 1 (dk_at dksX0_judge_6 4 rfl rfl)
theorem dX0_judge_148 : decode cX0_judge 148 = .ok (.goto (-79), 3) := dk_167 255 177 (dk_at dksX0_judge_6 7 rfl rfl)
theorem dX0_judge_151 : decode cX0_judge 151 = .ok (.iload 5, 2) := dk_21 5 (dk_at dksX0_judge_6 10 rfl rfl)
theorem dX0_judge_153 : decode cX0_judge 153 = .ok (.ifCond .eq 7, 3) := dk_153 0 7 (dk_at dksX0_judge_6 12 rfl rfl)
theorem dX0_judge_156 : decode cX0_judge 156 = .ok (.iconst 1, 1) := dk_4 (dk_at dksX0_judge_6 15 rfl rfl)
theorem dX0_judge_157 : decode cX0_judge 157 = .ok (.goto 4, 3) := dk_167 0 4 (dk_at dksX0_judge_6 16 rfl rfl)
theorem dX0_judge_160 : decode cX0_judge 160 = .ok (.iconst 0, 1) := dk_3 (dk_at dksX0_judge_6 19 rfl rfl)
theorem dX0_judge_161 : decode cX0_judge 161 = .ok (.ireturn, 1) := dk_172 (dk_at dksX0_judge_6 20 rfl rfl)
abbrev cX0_bar : ByteArray := prog_1_method_49_code
def yX0_bar : MethodName := ⟨RX0, "bar", "(II)I"⟩
def dkwX0_bar_9 : List UInt8 := [54, 6, 132, 9, 1, 167, 255, 230, 21, 6, 172]
abbrev dktX0_bar_9 : List UInt8 := dkwX0_bar_9 ++ []
def dkwX0_bar_8 : List UInt8 := [54, 9, 21, 9, 21, 8, 162, 0, 25, 25, 7, 21, 9, 46, 54, 10, 21, 6, 21, 10, 184, 0, 153]
abbrev dktX0_bar_8 : List UInt8 := dkwX0_bar_8 ++ dktX0_bar_9
def dkwX0_bar_7 : List UInt8 := [167, 255, 188, 132, 8, 1, 167, 255, 161, 17, 3, 232, 54, 6, 25, 5, 58, 7, 25, 7, 190, 54, 8, 3]
abbrev dktX0_bar_7 : List UInt8 := dkwX0_bar_7 ++ dktX0_bar_8
def dkwX0_bar_6 : List UInt8 := [79, 25, 5, 21, 10, 17, 3, 232, 25, 5, 21, 10, 46, 4, 96, 184, 0, 153, 79, 132, 10, 255]
abbrev dktX0_bar_6 : List UInt8 := dkwX0_bar_6 ++ dktX0_bar_7
def dkwX0_bar_5 : List UInt8 := [162, 0, 25, 25, 5, 21, 10, 4, 96, 25, 5, 21, 10, 4, 96, 46, 25, 5, 21, 10, 46, 184, 0, 153]
abbrev dktX0_bar_5 : List UInt8 := dkwX0_bar_5 ++ dktX0_bar_6
def dkwX0_bar_4 : List UInt8 := [54, 10, 21, 10, 155, 0, 69, 25, 4, 21, 10, 51, 21, 9, 160, 0, 53, 21, 10, 4, 96, 25, 4, 190]
abbrev dktX0_bar_4 : List UInt8 := dkwX0_bar_4 ++ dktX0_bar_5
def dkwX0_bar_3 : List UInt8 := [54, 7, 3, 54, 8, 21, 8, 21, 7, 162, 0, 94, 25, 6, 21, 8, 51, 54, 9, 25, 4, 190, 4, 100]
abbrev dktX0_bar_3 : List UInt8 := dkwX0_bar_3 ++ dktX0_bar_4
def dkwX0_bar_2 : List UInt8 := [25, 5, 21, 6, 17, 3, 232, 79, 132, 6, 1, 167, 255, 237, 42, 27, 182, 0, 188, 58, 6, 25, 6, 190]
abbrev dktX0_bar_2 : List UInt8 := dkwX0_bar_2 ++ dktX0_bar_3
def dkwX0_bar_1 : List UInt8 := [154, 0, 6, 16, 252, 172, 25, 4, 190, 188, 10, 58, 5, 4, 54, 6, 21, 6, 25, 4, 190, 162, 0, 17]
abbrev dktX0_bar_1 : List UInt8 := dkwX0_bar_1 ++ dktX0_bar_2
def dkwX0_bar_0 : List UInt8 := [42, 27, 28, 182, 0, 185, 62, 29, 156, 0, 5, 29, 172, 42, 28, 182, 0, 188, 58, 4, 25, 4, 190]
abbrev dktX0_bar_0 : List UInt8 := dkwX0_bar_0 ++ dktX0_bar_1
theorem dksX0_bar_0 : cX0_bar.data.toList.drop 0 = dktX0_bar_0 := by decide +kernel
theorem dksX0_bar_1 : cX0_bar.data.toList.drop 23 = dktX0_bar_1 := dk_seg dksX0_bar_0 23 rfl rfl
theorem dksX0_bar_2 : cX0_bar.data.toList.drop 47 = dktX0_bar_2 := dk_seg dksX0_bar_1 24 rfl rfl
theorem dksX0_bar_3 : cX0_bar.data.toList.drop 71 = dktX0_bar_3 := dk_seg dksX0_bar_2 24 rfl rfl
theorem dksX0_bar_4 : cX0_bar.data.toList.drop 95 = dktX0_bar_4 := dk_seg dksX0_bar_3 24 rfl rfl
theorem dksX0_bar_5 : cX0_bar.data.toList.drop 119 = dktX0_bar_5 := dk_seg dksX0_bar_4 24 rfl rfl
theorem dksX0_bar_6 : cX0_bar.data.toList.drop 143 = dktX0_bar_6 := dk_seg dksX0_bar_5 24 rfl rfl
theorem dksX0_bar_7 : cX0_bar.data.toList.drop 165 = dktX0_bar_7 := dk_seg dksX0_bar_6 22 rfl rfl
theorem dksX0_bar_8 : cX0_bar.data.toList.drop 189 = dktX0_bar_8 := dk_seg dksX0_bar_7 24 rfl rfl
theorem dksX0_bar_9 : cX0_bar.data.toList.drop 212 = dktX0_bar_9 := dk_seg dksX0_bar_8 23 rfl rfl
theorem dX0_bar_0 : decode cX0_bar 0 = .ok (.aload_n 0, 1) := dk_42 (dk_at dksX0_bar_0 0 rfl rfl)
theorem dX0_bar_1 : decode cX0_bar 1 = .ok (.iload_n 1, 1) := dk_27 (dk_at dksX0_bar_0 1 rfl rfl)
theorem dX0_bar_2 : decode cX0_bar 2 = .ok (.iload_n 2, 1) := dk_28 (dk_at dksX0_bar_0 2 rfl rfl)
theorem dX0_bar_3 : decode cX0_bar 3 = .ok (.invokevirtual 185, 3) := dk_182 0 185 (dk_at dksX0_bar_0 3 rfl rfl)
theorem dX0_bar_6 : decode cX0_bar 6 = .ok (.istore_n 3, 1) := dk_62 (dk_at dksX0_bar_0 6 rfl rfl)
theorem dX0_bar_7 : decode cX0_bar 7 = .ok (.iload_n 3, 1) := dk_29 (dk_at dksX0_bar_0 7 rfl rfl)
theorem dX0_bar_8 : decode cX0_bar 8 = .ok (.ifCond .ge 5, 3) := dk_156 0 5 (dk_at dksX0_bar_0 8 rfl rfl)
theorem dX0_bar_11 : decode cX0_bar 11 = .ok (.iload_n 3, 1) := dk_29 (dk_at dksX0_bar_0 11 rfl rfl)
theorem dX0_bar_12 : decode cX0_bar 12 = .ok (.ireturn, 1) := dk_172 (dk_at dksX0_bar_0 12 rfl rfl)
theorem dX0_bar_13 : decode cX0_bar 13 = .ok (.aload_n 0, 1) := dk_42 (dk_at dksX0_bar_0 13 rfl rfl)
theorem dX0_bar_14 : decode cX0_bar 14 = .ok (.iload_n 2, 1) := dk_28 (dk_at dksX0_bar_0 14 rfl rfl)
theorem dX0_bar_15 : decode cX0_bar 15 = .ok (.invokevirtual 188, 3) := dk_182 0 188 (dk_at dksX0_bar_0 15 rfl rfl)
theorem dX0_bar_18 : decode cX0_bar 18 = .ok (.astore 4, 2) := dk_58 4 (dk_at dksX0_bar_0 18 rfl rfl)
theorem dX0_bar_20 : decode cX0_bar 20 = .ok (.aload 4, 2) := dk_25 4 (dk_at dksX0_bar_0 20 rfl rfl)
theorem dX0_bar_22 : decode cX0_bar 22 = .ok (.arraylength, 1) := dk_190 (dk_at dksX0_bar_0 22 rfl rfl)
theorem dX0_bar_23 : decode cX0_bar 23 = .ok (.ifCond .ne 6, 3) := dk_154 0 6 (dk_at dksX0_bar_1 0 rfl rfl)
theorem dX0_bar_26 : decode cX0_bar 26 = .ok (.bipush (-4), 2) := dk_16 252 (dk_at dksX0_bar_1 3 rfl rfl)
theorem dX0_bar_28 : decode cX0_bar 28 = .ok (.ireturn, 1) := dk_172 (dk_at dksX0_bar_1 5 rfl rfl)
theorem dX0_bar_29 : decode cX0_bar 29 = .ok (.aload 4, 2) := dk_25 4 (dk_at dksX0_bar_1 6 rfl rfl)
theorem dX0_bar_31 : decode cX0_bar 31 = .ok (.arraylength, 1) := dk_190 (dk_at dksX0_bar_1 8 rfl rfl)
theorem dX0_bar_32 : decode cX0_bar 32 = .ok (.newarray .int, 2) := dk_188_10 (dk_at dksX0_bar_1 9 rfl rfl)
theorem dX0_bar_34 : decode cX0_bar 34 = .ok (.astore 5, 2) := dk_58 5 (dk_at dksX0_bar_1 11 rfl rfl)
theorem dX0_bar_36 : decode cX0_bar 36 = .ok (.iconst 1, 1) := dk_4 (dk_at dksX0_bar_1 13 rfl rfl)
theorem dX0_bar_37 : decode cX0_bar 37 = .ok (.istore 6, 2) := dk_54 6 (dk_at dksX0_bar_1 14 rfl rfl)
theorem dX0_bar_39 : decode cX0_bar 39 = .ok (.iload 6, 2) := dk_21 6 (dk_at dksX0_bar_1 16 rfl rfl)
theorem dX0_bar_41 : decode cX0_bar 41 = .ok (.aload 4, 2) := dk_25 4 (dk_at dksX0_bar_1 18 rfl rfl)
theorem dX0_bar_43 : decode cX0_bar 43 = .ok (.arraylength, 1) := dk_190 (dk_at dksX0_bar_1 20 rfl rfl)
theorem dX0_bar_44 : decode cX0_bar 44 = .ok (.if_icmp .ge 17, 3) := dk_162 0 17 (dk_at dksX0_bar_1 21 rfl rfl)
theorem dX0_bar_47 : decode cX0_bar 47 = .ok (.aload 5, 2) := dk_25 5 (dk_at dksX0_bar_2 0 rfl rfl)
theorem dX0_bar_49 : decode cX0_bar 49 = .ok (.iload 6, 2) := dk_21 6 (dk_at dksX0_bar_2 2 rfl rfl)
theorem dX0_bar_51 : decode cX0_bar 51 = .ok (.sipush 1000, 3) := dk_17 3 232 (dk_at dksX0_bar_2 4 rfl rfl)
theorem dX0_bar_54 : decode cX0_bar 54 = .ok (.iastore, 1) := dk_79 (dk_at dksX0_bar_2 7 rfl rfl)
theorem dX0_bar_55 : decode cX0_bar 55 = .ok (.iinc 6 1, 3) := dk_132 6 1 (dk_at dksX0_bar_2 8 rfl rfl)
theorem dX0_bar_58 : decode cX0_bar 58 = .ok (.goto (-19), 3) := dk_167 255 237 (dk_at dksX0_bar_2 11 rfl rfl)
theorem dX0_bar_61 : decode cX0_bar 61 = .ok (.aload_n 0, 1) := dk_42 (dk_at dksX0_bar_2 14 rfl rfl)
theorem dX0_bar_62 : decode cX0_bar 62 = .ok (.iload_n 1, 1) := dk_27 (dk_at dksX0_bar_2 15 rfl rfl)
theorem dX0_bar_63 : decode cX0_bar 63 = .ok (.invokevirtual 188, 3) := dk_182 0 188 (dk_at dksX0_bar_2 16 rfl rfl)
theorem dX0_bar_66 : decode cX0_bar 66 = .ok (.astore 6, 2) := dk_58 6 (dk_at dksX0_bar_2 19 rfl rfl)
theorem dX0_bar_68 : decode cX0_bar 68 = .ok (.aload 6, 2) := dk_25 6 (dk_at dksX0_bar_2 21 rfl rfl)
theorem dX0_bar_70 : decode cX0_bar 70 = .ok (.arraylength, 1) := dk_190 (dk_at dksX0_bar_2 23 rfl rfl)
theorem dX0_bar_71 : decode cX0_bar 71 = .ok (.istore 7, 2) := dk_54 7 (dk_at dksX0_bar_3 0 rfl rfl)
theorem dX0_bar_73 : decode cX0_bar 73 = .ok (.iconst 0, 1) := dk_3 (dk_at dksX0_bar_3 2 rfl rfl)
theorem dX0_bar_74 : decode cX0_bar 74 = .ok (.istore 8, 2) := dk_54 8 (dk_at dksX0_bar_3 3 rfl rfl)
theorem dX0_bar_76 : decode cX0_bar 76 = .ok (.iload 8, 2) := dk_21 8 (dk_at dksX0_bar_3 5 rfl rfl)
theorem dX0_bar_78 : decode cX0_bar 78 = .ok (.iload 7, 2) := dk_21 7 (dk_at dksX0_bar_3 7 rfl rfl)
theorem dX0_bar_80 : decode cX0_bar 80 = .ok (.if_icmp .ge 94, 3) := dk_162 0 94 (dk_at dksX0_bar_3 9 rfl rfl)
theorem dX0_bar_83 : decode cX0_bar 83 = .ok (.aload 6, 2) := dk_25 6 (dk_at dksX0_bar_3 12 rfl rfl)
theorem dX0_bar_85 : decode cX0_bar 85 = .ok (.iload 8, 2) := dk_21 8 (dk_at dksX0_bar_3 14 rfl rfl)
theorem dX0_bar_87 : decode cX0_bar 87 = .ok (.baload, 1) := dk_51 (dk_at dksX0_bar_3 16 rfl rfl)
theorem dX0_bar_88 : decode cX0_bar 88 = .ok (.istore 9, 2) := dk_54 9 (dk_at dksX0_bar_3 17 rfl rfl)
theorem dX0_bar_90 : decode cX0_bar 90 = .ok (.aload 4, 2) := dk_25 4 (dk_at dksX0_bar_3 19 rfl rfl)
theorem dX0_bar_92 : decode cX0_bar 92 = .ok (.arraylength, 1) := dk_190 (dk_at dksX0_bar_3 21 rfl rfl)
theorem dX0_bar_93 : decode cX0_bar 93 = .ok (.iconst 1, 1) := dk_4 (dk_at dksX0_bar_3 22 rfl rfl)
theorem dX0_bar_94 : decode cX0_bar 94 = .ok (.isub, 1) := dk_100 (dk_at dksX0_bar_3 23 rfl rfl)
theorem dX0_bar_95 : decode cX0_bar 95 = .ok (.istore 10, 2) := dk_54 10 (dk_at dksX0_bar_4 0 rfl rfl)
theorem dX0_bar_97 : decode cX0_bar 97 = .ok (.iload 10, 2) := dk_21 10 (dk_at dksX0_bar_4 2 rfl rfl)
theorem dX0_bar_99 : decode cX0_bar 99 = .ok (.ifCond .lt 69, 3) := dk_155 0 69 (dk_at dksX0_bar_4 4 rfl rfl)
theorem dX0_bar_102 : decode cX0_bar 102 = .ok (.aload 4, 2) := dk_25 4 (dk_at dksX0_bar_4 7 rfl rfl)
theorem dX0_bar_104 : decode cX0_bar 104 = .ok (.iload 10, 2) := dk_21 10 (dk_at dksX0_bar_4 9 rfl rfl)
theorem dX0_bar_106 : decode cX0_bar 106 = .ok (.baload, 1) := dk_51 (dk_at dksX0_bar_4 11 rfl rfl)
theorem dX0_bar_107 : decode cX0_bar 107 = .ok (.iload 9, 2) := dk_21 9 (dk_at dksX0_bar_4 12 rfl rfl)
theorem dX0_bar_109 : decode cX0_bar 109 = .ok (.if_icmp .ne 53, 3) := dk_160 0 53 (dk_at dksX0_bar_4 14 rfl rfl)
theorem dX0_bar_112 : decode cX0_bar 112 = .ok (.iload 10, 2) := dk_21 10 (dk_at dksX0_bar_4 17 rfl rfl)
theorem dX0_bar_114 : decode cX0_bar 114 = .ok (.iconst 1, 1) := dk_4 (dk_at dksX0_bar_4 19 rfl rfl)
theorem dX0_bar_115 : decode cX0_bar 115 = .ok (.iadd, 1) := dk_96 (dk_at dksX0_bar_4 20 rfl rfl)
theorem dX0_bar_116 : decode cX0_bar 116 = .ok (.aload 4, 2) := dk_25 4 (dk_at dksX0_bar_4 21 rfl rfl)
theorem dX0_bar_118 : decode cX0_bar 118 = .ok (.arraylength, 1) := dk_190 (dk_at dksX0_bar_4 23 rfl rfl)
theorem dX0_bar_119 : decode cX0_bar 119 = .ok (.if_icmp .ge 25, 3) := dk_162 0 25 (dk_at dksX0_bar_5 0 rfl rfl)
theorem dX0_bar_122 : decode cX0_bar 122 = .ok (.aload 5, 2) := dk_25 5 (dk_at dksX0_bar_5 3 rfl rfl)
theorem dX0_bar_124 : decode cX0_bar 124 = .ok (.iload 10, 2) := dk_21 10 (dk_at dksX0_bar_5 5 rfl rfl)
theorem dX0_bar_126 : decode cX0_bar 126 = .ok (.iconst 1, 1) := dk_4 (dk_at dksX0_bar_5 7 rfl rfl)
theorem dX0_bar_127 : decode cX0_bar 127 = .ok (.iadd, 1) := dk_96 (dk_at dksX0_bar_5 8 rfl rfl)
theorem dX0_bar_128 : decode cX0_bar 128 = .ok (.aload 5, 2) := dk_25 5 (dk_at dksX0_bar_5 9 rfl rfl)
theorem dX0_bar_130 : decode cX0_bar 130 = .ok (.iload 10, 2) := dk_21 10 (dk_at dksX0_bar_5 11 rfl rfl)
theorem dX0_bar_132 : decode cX0_bar 132 = .ok (.iconst 1, 1) := dk_4 (dk_at dksX0_bar_5 13 rfl rfl)
theorem dX0_bar_133 : decode cX0_bar 133 = .ok (.iadd, 1) := dk_96 (dk_at dksX0_bar_5 14 rfl rfl)
theorem dX0_bar_134 : decode cX0_bar 134 = .ok (.iaload, 1) := dk_46 (dk_at dksX0_bar_5 15 rfl rfl)
theorem dX0_bar_135 : decode cX0_bar 135 = .ok (.aload 5, 2) := dk_25 5 (dk_at dksX0_bar_5 16 rfl rfl)
theorem dX0_bar_137 : decode cX0_bar 137 = .ok (.iload 10, 2) := dk_21 10 (dk_at dksX0_bar_5 18 rfl rfl)
theorem dX0_bar_139 : decode cX0_bar 139 = .ok (.iaload, 1) := dk_46 (dk_at dksX0_bar_5 20 rfl rfl)
theorem dX0_bar_140 : decode cX0_bar 140 = .ok (.invokestatic 153, 3) := dk_184 0 153 (dk_at dksX0_bar_5 21 rfl rfl)
theorem dX0_bar_143 : decode cX0_bar 143 = .ok (.iastore, 1) := dk_79 (dk_at dksX0_bar_6 0 rfl rfl)
theorem dX0_bar_144 : decode cX0_bar 144 = .ok (.aload 5, 2) := dk_25 5 (dk_at dksX0_bar_6 1 rfl rfl)
theorem dX0_bar_146 : decode cX0_bar 146 = .ok (.iload 10, 2) := dk_21 10 (dk_at dksX0_bar_6 3 rfl rfl)
theorem dX0_bar_148 : decode cX0_bar 148 = .ok (.sipush 1000, 3) := dk_17 3 232 (dk_at dksX0_bar_6 5 rfl rfl)
theorem dX0_bar_151 : decode cX0_bar 151 = .ok (.aload 5, 2) := dk_25 5 (dk_at dksX0_bar_6 8 rfl rfl)
theorem dX0_bar_153 : decode cX0_bar 153 = .ok (.iload 10, 2) := dk_21 10 (dk_at dksX0_bar_6 10 rfl rfl)
theorem dX0_bar_155 : decode cX0_bar 155 = .ok (.iaload, 1) := dk_46 (dk_at dksX0_bar_6 12 rfl rfl)
theorem dX0_bar_156 : decode cX0_bar 156 = .ok (.iconst 1, 1) := dk_4 (dk_at dksX0_bar_6 13 rfl rfl)
theorem dX0_bar_157 : decode cX0_bar 157 = .ok (.iadd, 1) := dk_96 (dk_at dksX0_bar_6 14 rfl rfl)
theorem dX0_bar_158 : decode cX0_bar 158 = .ok (.invokestatic 153, 3) := dk_184 0 153 (dk_at dksX0_bar_6 15 rfl rfl)
theorem dX0_bar_161 : decode cX0_bar 161 = .ok (.iastore, 1) := dk_79 (dk_at dksX0_bar_6 18 rfl rfl)
theorem dX0_bar_162 : decode cX0_bar 162 = .ok (.iinc 10 (-1), 3) := dk_132 10 255 (dk_at dksX0_bar_6 19 rfl rfl)
theorem dX0_bar_165 : decode cX0_bar 165 = .ok (.goto (-68), 3) := dk_167 255 188 (dk_at dksX0_bar_7 0 rfl rfl)
theorem dX0_bar_168 : decode cX0_bar 168 = .ok (.iinc 8 1, 3) := dk_132 8 1 (dk_at dksX0_bar_7 3 rfl rfl)
theorem dX0_bar_171 : decode cX0_bar 171 = .ok (.goto (-95), 3) := dk_167 255 161 (dk_at dksX0_bar_7 6 rfl rfl)
theorem dX0_bar_174 : decode cX0_bar 174 = .ok (.sipush 1000, 3) := dk_17 3 232 (dk_at dksX0_bar_7 9 rfl rfl)
theorem dX0_bar_177 : decode cX0_bar 177 = .ok (.istore 6, 2) := dk_54 6 (dk_at dksX0_bar_7 12 rfl rfl)
theorem dX0_bar_179 : decode cX0_bar 179 = .ok (.aload 5, 2) := dk_25 5 (dk_at dksX0_bar_7 14 rfl rfl)
theorem dX0_bar_181 : decode cX0_bar 181 = .ok (.astore 7, 2) := dk_58 7 (dk_at dksX0_bar_7 16 rfl rfl)
theorem dX0_bar_183 : decode cX0_bar 183 = .ok (.aload 7, 2) := dk_25 7 (dk_at dksX0_bar_7 18 rfl rfl)
theorem dX0_bar_185 : decode cX0_bar 185 = .ok (.arraylength, 1) := dk_190 (dk_at dksX0_bar_7 20 rfl rfl)
theorem dX0_bar_186 : decode cX0_bar 186 = .ok (.istore 8, 2) := dk_54 8 (dk_at dksX0_bar_7 21 rfl rfl)
theorem dX0_bar_188 : decode cX0_bar 188 = .ok (.iconst 0, 1) := dk_3 (dk_at dksX0_bar_7 23 rfl rfl)
theorem dX0_bar_189 : decode cX0_bar 189 = .ok (.istore 9, 2) := dk_54 9 (dk_at dksX0_bar_8 0 rfl rfl)
theorem dX0_bar_191 : decode cX0_bar 191 = .ok (.iload 9, 2) := dk_21 9 (dk_at dksX0_bar_8 2 rfl rfl)
theorem dX0_bar_193 : decode cX0_bar 193 = .ok (.iload 8, 2) := dk_21 8 (dk_at dksX0_bar_8 4 rfl rfl)
theorem dX0_bar_195 : decode cX0_bar 195 = .ok (.if_icmp .ge 25, 3) := dk_162 0 25 (dk_at dksX0_bar_8 6 rfl rfl)
theorem dX0_bar_198 : decode cX0_bar 198 = .ok (.aload 7, 2) := dk_25 7 (dk_at dksX0_bar_8 9 rfl rfl)
theorem dX0_bar_200 : decode cX0_bar 200 = .ok (.iload 9, 2) := dk_21 9 (dk_at dksX0_bar_8 11 rfl rfl)
theorem dX0_bar_202 : decode cX0_bar 202 = .ok (.iaload, 1) := dk_46 (dk_at dksX0_bar_8 13 rfl rfl)
theorem dX0_bar_203 : decode cX0_bar 203 = .ok (.istore 10, 2) := dk_54 10 (dk_at dksX0_bar_8 14 rfl rfl)
theorem dX0_bar_205 : decode cX0_bar 205 = .ok (.iload 6, 2) := dk_21 6 (dk_at dksX0_bar_8 16 rfl rfl)
theorem dX0_bar_207 : decode cX0_bar 207 = .ok (.iload 10, 2) := dk_21 10 (dk_at dksX0_bar_8 18 rfl rfl)
theorem dX0_bar_209 : decode cX0_bar 209 = .ok (.invokestatic 153, 3) := dk_184 0 153 (dk_at dksX0_bar_8 20 rfl rfl)
theorem dX0_bar_212 : decode cX0_bar 212 = .ok (.istore 6, 2) := dk_54 6 (dk_at dksX0_bar_9 0 rfl rfl)
theorem dX0_bar_214 : decode cX0_bar 214 = .ok (.iinc 9 1, 3) := dk_132 9 1 (dk_at dksX0_bar_9 2 rfl rfl)
theorem dX0_bar_217 : decode cX0_bar 217 = .ok (.goto (-26), 3) := dk_167 255 230 (dk_at dksX0_bar_9 5 rfl rfl)
theorem dX0_bar_220 : decode cX0_bar 220 = .ok (.iload 6, 2) := dk_21 6 (dk_at dksX0_bar_9 8 rfl rfl)
theorem dX0_bar_222 : decode cX0_bar 222 = .ok (.ireturn, 1) := dk_172 (dk_at dksX0_bar_9 10 rfl rfl)
abbrev cX0_inner : ByteArray := prog_1_method_51_code
def yX0_inner : MethodName := ⟨RX0, "inner", "(II)I"⟩
def dkwX0_inner_3 : List UInt8 := [21, 6, 47, 167, 0, 4, 9, 97, 55, 4, 132, 6, 1, 167, 255, 218, 42, 22, 4, 4, 182, 0, 231, 172]
abbrev dktX0_inner_3 : List UInt8 := dkwX0_inner_3 ++ []
def dkwX0_inner_2 : List UInt8 := [16, 40, 163, 0, 37, 22, 4, 28, 16, 247, 159, 0, 9, 28, 21, 6, 160, 0, 13, 42, 180, 0, 65]
abbrev dktX0_inner_2 : List UInt8 := dkwX0_inner_2 ++ dktX0_inner_3
def dkwX0_inner_1 : List UInt8 := [29, 156, 0, 5, 29, 172, 42, 42, 27, 182, 0, 188, 182, 0, 253, 9, 55, 4, 3, 54, 6, 21, 6]
abbrev dktX0_inner_1 : List UInt8 := dkwX0_inner_1 ++ dktX0_inner_2
def dkwX0_inner_0 : List UInt8 := [28, 16, 247, 159, 0, 15, 28, 3, 16, 40, 184, 0, 93, 154, 0, 5, 2, 172, 42, 27, 182, 0, 195, 62]
abbrev dktX0_inner_0 : List UInt8 := dkwX0_inner_0 ++ dktX0_inner_1
theorem dksX0_inner_0 : cX0_inner.data.toList.drop 0 = dktX0_inner_0 := by decide +kernel
theorem dksX0_inner_1 : cX0_inner.data.toList.drop 24 = dktX0_inner_1 := dk_seg dksX0_inner_0 24 rfl rfl
theorem dksX0_inner_2 : cX0_inner.data.toList.drop 47 = dktX0_inner_2 := dk_seg dksX0_inner_1 23 rfl rfl
theorem dksX0_inner_3 : cX0_inner.data.toList.drop 70 = dktX0_inner_3 := dk_seg dksX0_inner_2 23 rfl rfl
theorem dX0_inner_0 : decode cX0_inner 0 = .ok (.iload_n 2, 1) := dk_28 (dk_at dksX0_inner_0 0 rfl rfl)
theorem dX0_inner_1 : decode cX0_inner 1 = .ok (.bipush (-9), 2) := dk_16 247 (dk_at dksX0_inner_0 1 rfl rfl)
theorem dX0_inner_3 : decode cX0_inner 3 = .ok (.if_icmp .eq 15, 3) := dk_159 0 15 (dk_at dksX0_inner_0 3 rfl rfl)
theorem dX0_inner_6 : decode cX0_inner 6 = .ok (.iload_n 2, 1) := dk_28 (dk_at dksX0_inner_0 6 rfl rfl)
theorem dX0_inner_7 : decode cX0_inner 7 = .ok (.iconst 0, 1) := dk_3 (dk_at dksX0_inner_0 7 rfl rfl)
theorem dX0_inner_8 : decode cX0_inner 8 = .ok (.bipush 40, 2) := dk_16 40 (dk_at dksX0_inner_0 8 rfl rfl)
theorem dX0_inner_10 : decode cX0_inner 10 = .ok (.invokestatic 93, 3) := dk_184 0 93 (dk_at dksX0_inner_0 10 rfl rfl)
theorem dX0_inner_13 : decode cX0_inner 13 = .ok (.ifCond .ne 5, 3) := dk_154 0 5 (dk_at dksX0_inner_0 13 rfl rfl)
theorem dX0_inner_16 : decode cX0_inner 16 = .ok (.iconst (-1), 1) := dk_2 (dk_at dksX0_inner_0 16 rfl rfl)
theorem dX0_inner_17 : decode cX0_inner 17 = .ok (.ireturn, 1) := dk_172 (dk_at dksX0_inner_0 17 rfl rfl)
theorem dX0_inner_18 : decode cX0_inner 18 = .ok (.aload_n 0, 1) := dk_42 (dk_at dksX0_inner_0 18 rfl rfl)
theorem dX0_inner_19 : decode cX0_inner 19 = .ok (.iload_n 1, 1) := dk_27 (dk_at dksX0_inner_0 19 rfl rfl)
theorem dX0_inner_20 : decode cX0_inner 20 = .ok (.invokevirtual 195, 3) := dk_182 0 195 (dk_at dksX0_inner_0 20 rfl rfl)
theorem dX0_inner_23 : decode cX0_inner 23 = .ok (.istore_n 3, 1) := dk_62 (dk_at dksX0_inner_0 23 rfl rfl)
theorem dX0_inner_24 : decode cX0_inner 24 = .ok (.iload_n 3, 1) := dk_29 (dk_at dksX0_inner_1 0 rfl rfl)
theorem dX0_inner_25 : decode cX0_inner 25 = .ok (.ifCond .ge 5, 3) := dk_156 0 5 (dk_at dksX0_inner_1 1 rfl rfl)
theorem dX0_inner_28 : decode cX0_inner 28 = .ok (.iload_n 3, 1) := dk_29 (dk_at dksX0_inner_1 4 rfl rfl)
theorem dX0_inner_29 : decode cX0_inner 29 = .ok (.ireturn, 1) := dk_172 (dk_at dksX0_inner_1 5 rfl rfl)
theorem dX0_inner_30 : decode cX0_inner 30 = .ok (.aload_n 0, 1) := dk_42 (dk_at dksX0_inner_1 6 rfl rfl)
theorem dX0_inner_31 : decode cX0_inner 31 = .ok (.aload_n 0, 1) := dk_42 (dk_at dksX0_inner_1 7 rfl rfl)
theorem dX0_inner_32 : decode cX0_inner 32 = .ok (.iload_n 1, 1) := dk_27 (dk_at dksX0_inner_1 8 rfl rfl)
theorem dX0_inner_33 : decode cX0_inner 33 = .ok (.invokevirtual 188, 3) := dk_182 0 188 (dk_at dksX0_inner_1 9 rfl rfl)
theorem dX0_inner_36 : decode cX0_inner 36 = .ok (.invokevirtual 253, 3) := dk_182 0 253 (dk_at dksX0_inner_1 12 rfl rfl)
theorem dX0_inner_39 : decode cX0_inner 39 = .ok (.lconst 0, 1) := dk_9 (dk_at dksX0_inner_1 15 rfl rfl)
theorem dX0_inner_40 : decode cX0_inner 40 = .ok (.lstore 4, 2) := dk_55 4 (dk_at dksX0_inner_1 16 rfl rfl)
theorem dX0_inner_42 : decode cX0_inner 42 = .ok (.iconst 0, 1) := dk_3 (dk_at dksX0_inner_1 18 rfl rfl)
theorem dX0_inner_43 : decode cX0_inner 43 = .ok (.istore 6, 2) := dk_54 6 (dk_at dksX0_inner_1 19 rfl rfl)
theorem dX0_inner_45 : decode cX0_inner 45 = .ok (.iload 6, 2) := dk_21 6 (dk_at dksX0_inner_1 21 rfl rfl)
theorem dX0_inner_47 : decode cX0_inner 47 = .ok (.bipush 40, 2) := dk_16 40 (dk_at dksX0_inner_2 0 rfl rfl)
theorem dX0_inner_49 : decode cX0_inner 49 = .ok (.if_icmp .gt 37, 3) := dk_163 0 37 (dk_at dksX0_inner_2 2 rfl rfl)
theorem dX0_inner_52 : decode cX0_inner 52 = .ok (.lload 4, 2) := dk_22 4 (dk_at dksX0_inner_2 5 rfl rfl)
theorem dX0_inner_54 : decode cX0_inner 54 = .ok (.iload_n 2, 1) := dk_28 (dk_at dksX0_inner_2 7 rfl rfl)
theorem dX0_inner_55 : decode cX0_inner 55 = .ok (.bipush (-9), 2) := dk_16 247 (dk_at dksX0_inner_2 8 rfl rfl)
theorem dX0_inner_57 : decode cX0_inner 57 = .ok (.if_icmp .eq 9, 3) := dk_159 0 9 (dk_at dksX0_inner_2 10 rfl rfl)
theorem dX0_inner_60 : decode cX0_inner 60 = .ok (.iload_n 2, 1) := dk_28 (dk_at dksX0_inner_2 13 rfl rfl)
theorem dX0_inner_61 : decode cX0_inner 61 = .ok (.iload 6, 2) := dk_21 6 (dk_at dksX0_inner_2 14 rfl rfl)
theorem dX0_inner_63 : decode cX0_inner 63 = .ok (.if_icmp .ne 13, 3) := dk_160 0 13 (dk_at dksX0_inner_2 16 rfl rfl)
theorem dX0_inner_66 : decode cX0_inner 66 = .ok (.aload_n 0, 1) := dk_42 (dk_at dksX0_inner_2 19 rfl rfl)
theorem dX0_inner_67 : decode cX0_inner 67 = .ok (.getfield 65, 3) := dk_180 0 65 (dk_at dksX0_inner_2 20 rfl rfl)
theorem dX0_inner_70 : decode cX0_inner 70 = .ok (.iload 6, 2) := dk_21 6 (dk_at dksX0_inner_3 0 rfl rfl)
theorem dX0_inner_72 : decode cX0_inner 72 = .ok (.laload, 1) := dk_47 (dk_at dksX0_inner_3 2 rfl rfl)
theorem dX0_inner_73 : decode cX0_inner 73 = .ok (.goto 4, 3) := dk_167 0 4 (dk_at dksX0_inner_3 3 rfl rfl)
theorem dX0_inner_76 : decode cX0_inner 76 = .ok (.lconst 0, 1) := dk_9 (dk_at dksX0_inner_3 6 rfl rfl)
theorem dX0_inner_77 : decode cX0_inner 77 = .ok (.ladd, 1) := dk_97 (dk_at dksX0_inner_3 7 rfl rfl)
theorem dX0_inner_78 : decode cX0_inner 78 = .ok (.lstore 4, 2) := dk_55 4 (dk_at dksX0_inner_3 8 rfl rfl)
theorem dX0_inner_80 : decode cX0_inner 80 = .ok (.iinc 6 1, 3) := dk_132 6 1 (dk_at dksX0_inner_3 10 rfl rfl)
theorem dX0_inner_83 : decode cX0_inner 83 = .ok (.goto (-38), 3) := dk_167 255 218 (dk_at dksX0_inner_3 13 rfl rfl)
theorem dX0_inner_86 : decode cX0_inner 86 = .ok (.aload_n 0, 1) := dk_42 (dk_at dksX0_inner_3 16 rfl rfl)
theorem dX0_inner_87 : decode cX0_inner 87 = .ok (.lload 4, 2) := dk_22 4 (dk_at dksX0_inner_3 17 rfl rfl)
theorem dX0_inner_89 : decode cX0_inner 89 = .ok (.iconst 1, 1) := dk_4 (dk_at dksX0_inner_3 19 rfl rfl)
theorem dX0_inner_90 : decode cX0_inner 90 = .ok (.invokevirtual 231, 3) := dk_182 0 231 (dk_at dksX0_inner_3 20 rfl rfl)
theorem dX0_inner_93 : decode cX0_inner 93 = .ok (.ireturn, 1) := dk_172 (dk_at dksX0_inner_3 23 rfl rfl)
abbrev cX0_setCounts : ByteArray := prog_1_method_50_code
def yX0_setCounts : MethodName := ⟨RX0, "setCounts", "([B)V"⟩
def dkwX0_setCounts_5 : List UInt8 := [132, 2, 255, 167, 255, 147, 177]
abbrev dktX0_setCounts_5 : List UInt8 := dkwX0_setCounts_5 ++ []
def dkwX0_setCounts_4 : List UInt8 := [167, 255, 200, 42, 180, 0, 65, 16, 41, 28, 104, 29, 96, 22, 4, 80, 132, 3, 1, 167, 255, 169]
abbrev dktX0_setCounts_4 : List UInt8 := dkwX0_setCounts_4 ++ dktX0_setCounts_5
def dkwX0_setCounts_3 : List UInt8 := [167, 0, 17, 42, 180, 0, 65, 16, 41, 21, 7, 104, 29, 96, 4, 100, 47, 97, 55, 4, 132, 6, 1]
abbrev dktX0_setCounts_3 : List UInt8 := dkwX0_setCounts_3 ++ dktX0_setCounts_4
def dkwX0_setCounts_2 : List UInt8 := [42, 180, 0, 53, 16, 6, 28, 104, 21, 6, 96, 46, 54, 7, 22, 4, 21, 7, 16, 247, 160, 0, 7, 9]
abbrev dktX0_setCounts_2 : List UInt8 := dkwX0_setCounts_2 ++ dktX0_setCounts_3
def dkwX0_setCounts_1 : List UInt8 := [80, 4, 62, 29, 16, 40, 163, 0, 87, 9, 55, 4, 3, 54, 6, 21, 6, 42, 180, 0, 30, 162, 0, 53]
abbrev dktX0_setCounts_1 : List UInt8 := dkwX0_setCounts_1 ++ dktX0_setCounts_2
def dkwX0_setCounts_0 : List UInt8 := [43, 42, 180, 0, 53, 184, 0, 249, 43, 190, 61, 28, 155, 0, 111, 42, 180, 0, 65, 16, 41, 28, 104, 10]
abbrev dktX0_setCounts_0 : List UInt8 := dkwX0_setCounts_0 ++ dktX0_setCounts_1
theorem dksX0_setCounts_0 : cX0_setCounts.data.toList.drop 0 = dktX0_setCounts_0 := by decide +kernel
theorem dksX0_setCounts_1 : cX0_setCounts.data.toList.drop 24 = dktX0_setCounts_1 := dk_seg dksX0_setCounts_0 24 rfl rfl
theorem dksX0_setCounts_2 : cX0_setCounts.data.toList.drop 48 = dktX0_setCounts_2 := dk_seg dksX0_setCounts_1 24 rfl rfl
theorem dksX0_setCounts_3 : cX0_setCounts.data.toList.drop 72 = dktX0_setCounts_3 := dk_seg dksX0_setCounts_2 24 rfl rfl
theorem dksX0_setCounts_4 : cX0_setCounts.data.toList.drop 95 = dktX0_setCounts_4 := dk_seg dksX0_setCounts_3 23 rfl rfl
theorem dksX0_setCounts_5 : cX0_setCounts.data.toList.drop 117 = dktX0_setCounts_5 := dk_seg dksX0_setCounts_4 22 rfl rfl
theorem dX0_setCounts_0 : decode cX0_setCounts 0 = .ok (.aload_n 1, 1) := dk_43 (dk_at dksX0_setCounts_0 0 rfl rfl)
theorem dX0_setCounts_1 : decode cX0_setCounts 1 = .ok (.aload_n 0, 1) := dk_42 (dk_at dksX0_setCounts_0 1 rfl rfl)
theorem dX0_setCounts_2 : decode cX0_setCounts 2 = .ok (.getfield 53, 3) := dk_180 0 53 (dk_at dksX0_setCounts_0 2 rfl rfl)
theorem dX0_setCounts_5 : decode cX0_setCounts 5 = .ok (.invokestatic 249, 3) := dk_184 0 249 (dk_at dksX0_setCounts_0 5 rfl rfl)
theorem dX0_setCounts_8 : decode cX0_setCounts 8 = .ok (.aload_n 1, 1) := dk_43 (dk_at dksX0_setCounts_0 8 rfl rfl)
theorem dX0_setCounts_9 : decode cX0_setCounts 9 = .ok (.arraylength, 1) := dk_190 (dk_at dksX0_setCounts_0 9 rfl rfl)
theorem dX0_setCounts_10 : decode cX0_setCounts 10 = .ok (.istore_n 2, 1) := dk_61 (dk_at dksX0_setCounts_0 10 rfl rfl)
theorem dX0_setCounts_11 : decode cX0_setCounts 11 = .ok (.iload_n 2, 1) := dk_28 (dk_at dksX0_setCounts_0 11 rfl rfl)
theorem dX0_setCounts_12 : decode cX0_setCounts 12 = .ok (.ifCond .lt 111, 3) := dk_155 0 111 (dk_at dksX0_setCounts_0 12 rfl rfl)
theorem dX0_setCounts_15 : decode cX0_setCounts 15 = .ok (.aload_n 0, 1) := dk_42 (dk_at dksX0_setCounts_0 15 rfl rfl)
theorem dX0_setCounts_16 : decode cX0_setCounts 16 = .ok (.getfield 65, 3) := dk_180 0 65 (dk_at dksX0_setCounts_0 16 rfl rfl)
theorem dX0_setCounts_19 : decode cX0_setCounts 19 = .ok (.bipush 41, 2) := dk_16 41 (dk_at dksX0_setCounts_0 19 rfl rfl)
theorem dX0_setCounts_21 : decode cX0_setCounts 21 = .ok (.iload_n 2, 1) := dk_28 (dk_at dksX0_setCounts_0 21 rfl rfl)
theorem dX0_setCounts_22 : decode cX0_setCounts 22 = .ok (.imul, 1) := dk_104 (dk_at dksX0_setCounts_0 22 rfl rfl)
theorem dX0_setCounts_23 : decode cX0_setCounts 23 = .ok (.lconst 1, 1) := dk_10 (dk_at dksX0_setCounts_0 23 rfl rfl)
theorem dX0_setCounts_24 : decode cX0_setCounts 24 = .ok (.lastore, 1) := dk_80 (dk_at dksX0_setCounts_1 0 rfl rfl)
theorem dX0_setCounts_25 : decode cX0_setCounts 25 = .ok (.iconst 1, 1) := dk_4 (dk_at dksX0_setCounts_1 1 rfl rfl)
theorem dX0_setCounts_26 : decode cX0_setCounts 26 = .ok (.istore_n 3, 1) := dk_62 (dk_at dksX0_setCounts_1 2 rfl rfl)
theorem dX0_setCounts_27 : decode cX0_setCounts 27 = .ok (.iload_n 3, 1) := dk_29 (dk_at dksX0_setCounts_1 3 rfl rfl)
theorem dX0_setCounts_28 : decode cX0_setCounts 28 = .ok (.bipush 40, 2) := dk_16 40 (dk_at dksX0_setCounts_1 4 rfl rfl)
theorem dX0_setCounts_30 : decode cX0_setCounts 30 = .ok (.if_icmp .gt 87, 3) := dk_163 0 87 (dk_at dksX0_setCounts_1 6 rfl rfl)
theorem dX0_setCounts_33 : decode cX0_setCounts 33 = .ok (.lconst 0, 1) := dk_9 (dk_at dksX0_setCounts_1 9 rfl rfl)
theorem dX0_setCounts_34 : decode cX0_setCounts 34 = .ok (.lstore 4, 2) := dk_55 4 (dk_at dksX0_setCounts_1 10 rfl rfl)
theorem dX0_setCounts_36 : decode cX0_setCounts 36 = .ok (.iconst 0, 1) := dk_3 (dk_at dksX0_setCounts_1 12 rfl rfl)
theorem dX0_setCounts_37 : decode cX0_setCounts 37 = .ok (.istore 6, 2) := dk_54 6 (dk_at dksX0_setCounts_1 13 rfl rfl)
theorem dX0_setCounts_39 : decode cX0_setCounts 39 = .ok (.iload 6, 2) := dk_21 6 (dk_at dksX0_setCounts_1 15 rfl rfl)
theorem dX0_setCounts_41 : decode cX0_setCounts 41 = .ok (.aload_n 0, 1) := dk_42 (dk_at dksX0_setCounts_1 17 rfl rfl)
theorem dX0_setCounts_42 : decode cX0_setCounts 42 = .ok (.getfield 30, 3) := dk_180 0 30 (dk_at dksX0_setCounts_1 18 rfl rfl)
theorem dX0_setCounts_45 : decode cX0_setCounts 45 = .ok (.if_icmp .ge 53, 3) := dk_162 0 53 (dk_at dksX0_setCounts_1 21 rfl rfl)
theorem dX0_setCounts_48 : decode cX0_setCounts 48 = .ok (.aload_n 0, 1) := dk_42 (dk_at dksX0_setCounts_2 0 rfl rfl)
theorem dX0_setCounts_49 : decode cX0_setCounts 49 = .ok (.getfield 53, 3) := dk_180 0 53 (dk_at dksX0_setCounts_2 1 rfl rfl)
theorem dX0_setCounts_52 : decode cX0_setCounts 52 = .ok (.bipush 6, 2) := dk_16 6 (dk_at dksX0_setCounts_2 4 rfl rfl)
theorem dX0_setCounts_54 : decode cX0_setCounts 54 = .ok (.iload_n 2, 1) := dk_28 (dk_at dksX0_setCounts_2 6 rfl rfl)
theorem dX0_setCounts_55 : decode cX0_setCounts 55 = .ok (.imul, 1) := dk_104 (dk_at dksX0_setCounts_2 7 rfl rfl)
theorem dX0_setCounts_56 : decode cX0_setCounts 56 = .ok (.iload 6, 2) := dk_21 6 (dk_at dksX0_setCounts_2 8 rfl rfl)
theorem dX0_setCounts_58 : decode cX0_setCounts 58 = .ok (.iadd, 1) := dk_96 (dk_at dksX0_setCounts_2 10 rfl rfl)
theorem dX0_setCounts_59 : decode cX0_setCounts 59 = .ok (.iaload, 1) := dk_46 (dk_at dksX0_setCounts_2 11 rfl rfl)
theorem dX0_setCounts_60 : decode cX0_setCounts 60 = .ok (.istore 7, 2) := dk_54 7 (dk_at dksX0_setCounts_2 12 rfl rfl)
theorem dX0_setCounts_62 : decode cX0_setCounts 62 = .ok (.lload 4, 2) := dk_22 4 (dk_at dksX0_setCounts_2 14 rfl rfl)
theorem dX0_setCounts_64 : decode cX0_setCounts 64 = .ok (.iload 7, 2) := dk_21 7 (dk_at dksX0_setCounts_2 16 rfl rfl)
theorem dX0_setCounts_66 : decode cX0_setCounts 66 = .ok (.bipush (-9), 2) := dk_16 247 (dk_at dksX0_setCounts_2 18 rfl rfl)
theorem dX0_setCounts_68 : decode cX0_setCounts 68 = .ok (.if_icmp .ne 7, 3) := dk_160 0 7 (dk_at dksX0_setCounts_2 20 rfl rfl)
theorem dX0_setCounts_71 : decode cX0_setCounts 71 = .ok (.lconst 0, 1) := dk_9 (dk_at dksX0_setCounts_2 23 rfl rfl)
theorem dX0_setCounts_72 : decode cX0_setCounts 72 = .ok (.goto 17, 3) := dk_167 0 17 (dk_at dksX0_setCounts_3 0 rfl rfl)
theorem dX0_setCounts_75 : decode cX0_setCounts 75 = .ok (.aload_n 0, 1) := dk_42 (dk_at dksX0_setCounts_3 3 rfl rfl)
theorem dX0_setCounts_76 : decode cX0_setCounts 76 = .ok (.getfield 65, 3) := dk_180 0 65 (dk_at dksX0_setCounts_3 4 rfl rfl)
theorem dX0_setCounts_79 : decode cX0_setCounts 79 = .ok (.bipush 41, 2) := dk_16 41 (dk_at dksX0_setCounts_3 7 rfl rfl)
theorem dX0_setCounts_81 : decode cX0_setCounts 81 = .ok (.iload 7, 2) := dk_21 7 (dk_at dksX0_setCounts_3 9 rfl rfl)
theorem dX0_setCounts_83 : decode cX0_setCounts 83 = .ok (.imul, 1) := dk_104 (dk_at dksX0_setCounts_3 11 rfl rfl)
theorem dX0_setCounts_84 : decode cX0_setCounts 84 = .ok (.iload_n 3, 1) := dk_29 (dk_at dksX0_setCounts_3 12 rfl rfl)
theorem dX0_setCounts_85 : decode cX0_setCounts 85 = .ok (.iadd, 1) := dk_96 (dk_at dksX0_setCounts_3 13 rfl rfl)
theorem dX0_setCounts_86 : decode cX0_setCounts 86 = .ok (.iconst 1, 1) := dk_4 (dk_at dksX0_setCounts_3 14 rfl rfl)
theorem dX0_setCounts_87 : decode cX0_setCounts 87 = .ok (.isub, 1) := dk_100 (dk_at dksX0_setCounts_3 15 rfl rfl)
theorem dX0_setCounts_88 : decode cX0_setCounts 88 = .ok (.laload, 1) := dk_47 (dk_at dksX0_setCounts_3 16 rfl rfl)
theorem dX0_setCounts_89 : decode cX0_setCounts 89 = .ok (.ladd, 1) := dk_97 (dk_at dksX0_setCounts_3 17 rfl rfl)
theorem dX0_setCounts_90 : decode cX0_setCounts 90 = .ok (.lstore 4, 2) := dk_55 4 (dk_at dksX0_setCounts_3 18 rfl rfl)
theorem dX0_setCounts_92 : decode cX0_setCounts 92 = .ok (.iinc 6 1, 3) := dk_132 6 1 (dk_at dksX0_setCounts_3 20 rfl rfl)
theorem dX0_setCounts_95 : decode cX0_setCounts 95 = .ok (.goto (-56), 3) := dk_167 255 200 (dk_at dksX0_setCounts_4 0 rfl rfl)
theorem dX0_setCounts_98 : decode cX0_setCounts 98 = .ok (.aload_n 0, 1) := dk_42 (dk_at dksX0_setCounts_4 3 rfl rfl)
theorem dX0_setCounts_99 : decode cX0_setCounts 99 = .ok (.getfield 65, 3) := dk_180 0 65 (dk_at dksX0_setCounts_4 4 rfl rfl)
theorem dX0_setCounts_102 : decode cX0_setCounts 102 = .ok (.bipush 41, 2) := dk_16 41 (dk_at dksX0_setCounts_4 7 rfl rfl)
theorem dX0_setCounts_104 : decode cX0_setCounts 104 = .ok (.iload_n 2, 1) := dk_28 (dk_at dksX0_setCounts_4 9 rfl rfl)
theorem dX0_setCounts_105 : decode cX0_setCounts 105 = .ok (.imul, 1) := dk_104 (dk_at dksX0_setCounts_4 10 rfl rfl)
theorem dX0_setCounts_106 : decode cX0_setCounts 106 = .ok (.iload_n 3, 1) := dk_29 (dk_at dksX0_setCounts_4 11 rfl rfl)
theorem dX0_setCounts_107 : decode cX0_setCounts 107 = .ok (.iadd, 1) := dk_96 (dk_at dksX0_setCounts_4 12 rfl rfl)
theorem dX0_setCounts_108 : decode cX0_setCounts 108 = .ok (.lload 4, 2) := dk_22 4 (dk_at dksX0_setCounts_4 13 rfl rfl)
theorem dX0_setCounts_110 : decode cX0_setCounts 110 = .ok (.lastore, 1) := dk_80 (dk_at dksX0_setCounts_4 15 rfl rfl)
theorem dX0_setCounts_111 : decode cX0_setCounts 111 = .ok (.iinc 3 1, 3) := dk_132 3 1 (dk_at dksX0_setCounts_4 16 rfl rfl)
theorem dX0_setCounts_114 : decode cX0_setCounts 114 = .ok (.goto (-87), 3) := dk_167 255 169 (dk_at dksX0_setCounts_4 19 rfl rfl)
theorem dX0_setCounts_117 : decode cX0_setCounts 117 = .ok (.iinc 2 (-1), 3) := dk_132 2 255 (dk_at dksX0_setCounts_5 0 rfl rfl)
theorem dX0_setCounts_120 : decode cX0_setCounts 120 = .ok (.goto (-109), 3) := dk_167 255 147 (dk_at dksX0_setCounts_5 3 rfl rfl)
theorem dX0_setCounts_123 : decode cX0_setCounts 123 = .ok (.return_, 1) := dk_177 (dk_at dksX0_setCounts_5 6 rfl rfl)
abbrev cX0_rank : ByteArray := prog_1_method_52_code
def yX0_rank : MethodName := ⟨RX0, "rank", "(II)I"⟩
def dkwX0_rank_6 : List UInt8 := [21, 4, 16, 247, 160, 0, 6, 16, 247, 172, 132, 7, 1, 167, 255, 132, 42, 22, 5, 4, 182, 0, 231, 172]
abbrev dktX0_rank_6 : List UInt8 := dkwX0_rank_6 ++ []
def dkwX0_rank_5 : List UInt8 := [167, 255, 196, 42, 180, 0, 53, 16, 6, 21, 4, 104, 42, 28, 182, 0, 188, 21, 7, 51, 96, 46, 54, 4]
abbrev dktX0_rank_5 : List UInt8 := dkwX0_rank_5 ++ dktX0_rank_6
def dkwX0_rank_4 : List UInt8 := [9, 167, 0, 16, 42, 180, 0, 65, 16, 41, 21, 10, 104, 21, 8, 96, 47, 97, 55, 5, 132, 9, 1]
abbrev dktX0_rank_4 : List UInt8 := dkwX0_rank_4 ++ dktX0_rank_5
def dkwX0_rank_3 : List UInt8 := [42, 180, 0, 53, 16, 6, 21, 4, 104, 21, 9, 96, 46, 54, 10, 22, 5, 21, 10, 16, 247, 160, 0, 7]
abbrev dktX0_rank_3 : List UInt8 := dkwX0_rank_3 ++ dktX0_rank_4
def dkwX0_rank_2 : List UInt8 := [190, 21, 7, 100, 4, 100, 54, 8, 3, 54, 9, 21, 9, 42, 28, 182, 0, 188, 21, 7, 51, 162, 0, 53]
abbrev dktX0_rank_2 : List UInt8 := dkwX0_rank_2 ++ dktX0_rank_3
def dkwX0_rank_1 : List UInt8 := [54, 4, 9, 55, 5, 3, 54, 7, 21, 7, 42, 28, 182, 0, 188, 190, 162, 0, 119, 42, 28, 182, 0, 188]
abbrev dktX0_rank_1 : List UInt8 := dkwX0_rank_1 ++ dktX0_rank_2
def dkwX0_rank_0 : List UInt8 := [42, 27, 28, 182, 0, 185, 62, 29, 156, 0, 5, 29, 172, 42, 42, 27, 182, 0, 188, 182, 0, 253, 3]
abbrev dktX0_rank_0 : List UInt8 := dkwX0_rank_0 ++ dktX0_rank_1
theorem dksX0_rank_0 : cX0_rank.data.toList.drop 0 = dktX0_rank_0 := by decide +kernel
theorem dksX0_rank_1 : cX0_rank.data.toList.drop 23 = dktX0_rank_1 := dk_seg dksX0_rank_0 23 rfl rfl
theorem dksX0_rank_2 : cX0_rank.data.toList.drop 47 = dktX0_rank_2 := dk_seg dksX0_rank_1 24 rfl rfl
theorem dksX0_rank_3 : cX0_rank.data.toList.drop 71 = dktX0_rank_3 := dk_seg dksX0_rank_2 24 rfl rfl
theorem dksX0_rank_4 : cX0_rank.data.toList.drop 95 = dktX0_rank_4 := dk_seg dksX0_rank_3 24 rfl rfl
theorem dksX0_rank_5 : cX0_rank.data.toList.drop 118 = dktX0_rank_5 := dk_seg dksX0_rank_4 23 rfl rfl
theorem dksX0_rank_6 : cX0_rank.data.toList.drop 142 = dktX0_rank_6 := dk_seg dksX0_rank_5 24 rfl rfl
theorem dX0_rank_0 : decode cX0_rank 0 = .ok (.aload_n 0, 1) := dk_42 (dk_at dksX0_rank_0 0 rfl rfl)
theorem dX0_rank_1 : decode cX0_rank 1 = .ok (.iload_n 1, 1) := dk_27 (dk_at dksX0_rank_0 1 rfl rfl)
theorem dX0_rank_2 : decode cX0_rank 2 = .ok (.iload_n 2, 1) := dk_28 (dk_at dksX0_rank_0 2 rfl rfl)
theorem dX0_rank_3 : decode cX0_rank 3 = .ok (.invokevirtual 185, 3) := dk_182 0 185 (dk_at dksX0_rank_0 3 rfl rfl)
theorem dX0_rank_6 : decode cX0_rank 6 = .ok (.istore_n 3, 1) := dk_62 (dk_at dksX0_rank_0 6 rfl rfl)
theorem dX0_rank_7 : decode cX0_rank 7 = .ok (.iload_n 3, 1) := dk_29 (dk_at dksX0_rank_0 7 rfl rfl)
theorem dX0_rank_8 : decode cX0_rank 8 = .ok (.ifCond .ge 5, 3) := dk_156 0 5 (dk_at dksX0_rank_0 8 rfl rfl)
theorem dX0_rank_11 : decode cX0_rank 11 = .ok (.iload_n 3, 1) := dk_29 (dk_at dksX0_rank_0 11 rfl rfl)
theorem dX0_rank_12 : decode cX0_rank 12 = .ok (.ireturn, 1) := dk_172 (dk_at dksX0_rank_0 12 rfl rfl)
theorem dX0_rank_13 : decode cX0_rank 13 = .ok (.aload_n 0, 1) := dk_42 (dk_at dksX0_rank_0 13 rfl rfl)
theorem dX0_rank_14 : decode cX0_rank 14 = .ok (.aload_n 0, 1) := dk_42 (dk_at dksX0_rank_0 14 rfl rfl)
theorem dX0_rank_15 : decode cX0_rank 15 = .ok (.iload_n 1, 1) := dk_27 (dk_at dksX0_rank_0 15 rfl rfl)
theorem dX0_rank_16 : decode cX0_rank 16 = .ok (.invokevirtual 188, 3) := dk_182 0 188 (dk_at dksX0_rank_0 16 rfl rfl)
theorem dX0_rank_19 : decode cX0_rank 19 = .ok (.invokevirtual 253, 3) := dk_182 0 253 (dk_at dksX0_rank_0 19 rfl rfl)
theorem dX0_rank_22 : decode cX0_rank 22 = .ok (.iconst 0, 1) := dk_3 (dk_at dksX0_rank_0 22 rfl rfl)
theorem dX0_rank_23 : decode cX0_rank 23 = .ok (.istore 4, 2) := dk_54 4 (dk_at dksX0_rank_1 0 rfl rfl)
theorem dX0_rank_25 : decode cX0_rank 25 = .ok (.lconst 0, 1) := dk_9 (dk_at dksX0_rank_1 2 rfl rfl)
theorem dX0_rank_26 : decode cX0_rank 26 = .ok (.lstore 5, 2) := dk_55 5 (dk_at dksX0_rank_1 3 rfl rfl)
theorem dX0_rank_28 : decode cX0_rank 28 = .ok (.iconst 0, 1) := dk_3 (dk_at dksX0_rank_1 5 rfl rfl)
theorem dX0_rank_29 : decode cX0_rank 29 = .ok (.istore 7, 2) := dk_54 7 (dk_at dksX0_rank_1 6 rfl rfl)
theorem dX0_rank_31 : decode cX0_rank 31 = .ok (.iload 7, 2) := dk_21 7 (dk_at dksX0_rank_1 8 rfl rfl)
theorem dX0_rank_33 : decode cX0_rank 33 = .ok (.aload_n 0, 1) := dk_42 (dk_at dksX0_rank_1 10 rfl rfl)
theorem dX0_rank_34 : decode cX0_rank 34 = .ok (.iload_n 2, 1) := dk_28 (dk_at dksX0_rank_1 11 rfl rfl)
theorem dX0_rank_35 : decode cX0_rank 35 = .ok (.invokevirtual 188, 3) := dk_182 0 188 (dk_at dksX0_rank_1 12 rfl rfl)
theorem dX0_rank_38 : decode cX0_rank 38 = .ok (.arraylength, 1) := dk_190 (dk_at dksX0_rank_1 15 rfl rfl)
theorem dX0_rank_39 : decode cX0_rank 39 = .ok (.if_icmp .ge 119, 3) := dk_162 0 119 (dk_at dksX0_rank_1 16 rfl rfl)
theorem dX0_rank_42 : decode cX0_rank 42 = .ok (.aload_n 0, 1) := dk_42 (dk_at dksX0_rank_1 19 rfl rfl)
theorem dX0_rank_43 : decode cX0_rank 43 = .ok (.iload_n 2, 1) := dk_28 (dk_at dksX0_rank_1 20 rfl rfl)
theorem dX0_rank_44 : decode cX0_rank 44 = .ok (.invokevirtual 188, 3) := dk_182 0 188 (dk_at dksX0_rank_1 21 rfl rfl)
theorem dX0_rank_47 : decode cX0_rank 47 = .ok (.arraylength, 1) := dk_190 (dk_at dksX0_rank_2 0 rfl rfl)
theorem dX0_rank_48 : decode cX0_rank 48 = .ok (.iload 7, 2) := dk_21 7 (dk_at dksX0_rank_2 1 rfl rfl)
theorem dX0_rank_50 : decode cX0_rank 50 = .ok (.isub, 1) := dk_100 (dk_at dksX0_rank_2 3 rfl rfl)
theorem dX0_rank_51 : decode cX0_rank 51 = .ok (.iconst 1, 1) := dk_4 (dk_at dksX0_rank_2 4 rfl rfl)
theorem dX0_rank_52 : decode cX0_rank 52 = .ok (.isub, 1) := dk_100 (dk_at dksX0_rank_2 5 rfl rfl)
theorem dX0_rank_53 : decode cX0_rank 53 = .ok (.istore 8, 2) := dk_54 8 (dk_at dksX0_rank_2 6 rfl rfl)
theorem dX0_rank_55 : decode cX0_rank 55 = .ok (.iconst 0, 1) := dk_3 (dk_at dksX0_rank_2 8 rfl rfl)
theorem dX0_rank_56 : decode cX0_rank 56 = .ok (.istore 9, 2) := dk_54 9 (dk_at dksX0_rank_2 9 rfl rfl)
theorem dX0_rank_58 : decode cX0_rank 58 = .ok (.iload 9, 2) := dk_21 9 (dk_at dksX0_rank_2 11 rfl rfl)
theorem dX0_rank_60 : decode cX0_rank 60 = .ok (.aload_n 0, 1) := dk_42 (dk_at dksX0_rank_2 13 rfl rfl)
theorem dX0_rank_61 : decode cX0_rank 61 = .ok (.iload_n 2, 1) := dk_28 (dk_at dksX0_rank_2 14 rfl rfl)
theorem dX0_rank_62 : decode cX0_rank 62 = .ok (.invokevirtual 188, 3) := dk_182 0 188 (dk_at dksX0_rank_2 15 rfl rfl)
theorem dX0_rank_65 : decode cX0_rank 65 = .ok (.iload 7, 2) := dk_21 7 (dk_at dksX0_rank_2 18 rfl rfl)
theorem dX0_rank_67 : decode cX0_rank 67 = .ok (.baload, 1) := dk_51 (dk_at dksX0_rank_2 20 rfl rfl)
theorem dX0_rank_68 : decode cX0_rank 68 = .ok (.if_icmp .ge 53, 3) := dk_162 0 53 (dk_at dksX0_rank_2 21 rfl rfl)
theorem dX0_rank_71 : decode cX0_rank 71 = .ok (.aload_n 0, 1) := dk_42 (dk_at dksX0_rank_3 0 rfl rfl)
theorem dX0_rank_72 : decode cX0_rank 72 = .ok (.getfield 53, 3) := dk_180 0 53 (dk_at dksX0_rank_3 1 rfl rfl)
theorem dX0_rank_75 : decode cX0_rank 75 = .ok (.bipush 6, 2) := dk_16 6 (dk_at dksX0_rank_3 4 rfl rfl)
theorem dX0_rank_77 : decode cX0_rank 77 = .ok (.iload 4, 2) := dk_21 4 (dk_at dksX0_rank_3 6 rfl rfl)
theorem dX0_rank_79 : decode cX0_rank 79 = .ok (.imul, 1) := dk_104 (dk_at dksX0_rank_3 8 rfl rfl)
theorem dX0_rank_80 : decode cX0_rank 80 = .ok (.iload 9, 2) := dk_21 9 (dk_at dksX0_rank_3 9 rfl rfl)
theorem dX0_rank_82 : decode cX0_rank 82 = .ok (.iadd, 1) := dk_96 (dk_at dksX0_rank_3 11 rfl rfl)
theorem dX0_rank_83 : decode cX0_rank 83 = .ok (.iaload, 1) := dk_46 (dk_at dksX0_rank_3 12 rfl rfl)
theorem dX0_rank_84 : decode cX0_rank 84 = .ok (.istore 10, 2) := dk_54 10 (dk_at dksX0_rank_3 13 rfl rfl)
theorem dX0_rank_86 : decode cX0_rank 86 = .ok (.lload 5, 2) := dk_22 5 (dk_at dksX0_rank_3 15 rfl rfl)
theorem dX0_rank_88 : decode cX0_rank 88 = .ok (.iload 10, 2) := dk_21 10 (dk_at dksX0_rank_3 17 rfl rfl)
theorem dX0_rank_90 : decode cX0_rank 90 = .ok (.bipush (-9), 2) := dk_16 247 (dk_at dksX0_rank_3 19 rfl rfl)
theorem dX0_rank_92 : decode cX0_rank 92 = .ok (.if_icmp .ne 7, 3) := dk_160 0 7 (dk_at dksX0_rank_3 21 rfl rfl)
theorem dX0_rank_95 : decode cX0_rank 95 = .ok (.lconst 0, 1) := dk_9 (dk_at dksX0_rank_4 0 rfl rfl)
theorem dX0_rank_96 : decode cX0_rank 96 = .ok (.goto 16, 3) := dk_167 0 16 (dk_at dksX0_rank_4 1 rfl rfl)
theorem dX0_rank_99 : decode cX0_rank 99 = .ok (.aload_n 0, 1) := dk_42 (dk_at dksX0_rank_4 4 rfl rfl)
theorem dX0_rank_100 : decode cX0_rank 100 = .ok (.getfield 65, 3) := dk_180 0 65 (dk_at dksX0_rank_4 5 rfl rfl)
theorem dX0_rank_103 : decode cX0_rank 103 = .ok (.bipush 41, 2) := dk_16 41 (dk_at dksX0_rank_4 8 rfl rfl)
theorem dX0_rank_105 : decode cX0_rank 105 = .ok (.iload 10, 2) := dk_21 10 (dk_at dksX0_rank_4 10 rfl rfl)
theorem dX0_rank_107 : decode cX0_rank 107 = .ok (.imul, 1) := dk_104 (dk_at dksX0_rank_4 12 rfl rfl)
theorem dX0_rank_108 : decode cX0_rank 108 = .ok (.iload 8, 2) := dk_21 8 (dk_at dksX0_rank_4 13 rfl rfl)
theorem dX0_rank_110 : decode cX0_rank 110 = .ok (.iadd, 1) := dk_96 (dk_at dksX0_rank_4 15 rfl rfl)
theorem dX0_rank_111 : decode cX0_rank 111 = .ok (.laload, 1) := dk_47 (dk_at dksX0_rank_4 16 rfl rfl)
theorem dX0_rank_112 : decode cX0_rank 112 = .ok (.ladd, 1) := dk_97 (dk_at dksX0_rank_4 17 rfl rfl)
theorem dX0_rank_113 : decode cX0_rank 113 = .ok (.lstore 5, 2) := dk_55 5 (dk_at dksX0_rank_4 18 rfl rfl)
theorem dX0_rank_115 : decode cX0_rank 115 = .ok (.iinc 9 1, 3) := dk_132 9 1 (dk_at dksX0_rank_4 20 rfl rfl)
theorem dX0_rank_118 : decode cX0_rank 118 = .ok (.goto (-60), 3) := dk_167 255 196 (dk_at dksX0_rank_5 0 rfl rfl)
theorem dX0_rank_121 : decode cX0_rank 121 = .ok (.aload_n 0, 1) := dk_42 (dk_at dksX0_rank_5 3 rfl rfl)
theorem dX0_rank_122 : decode cX0_rank 122 = .ok (.getfield 53, 3) := dk_180 0 53 (dk_at dksX0_rank_5 4 rfl rfl)
theorem dX0_rank_125 : decode cX0_rank 125 = .ok (.bipush 6, 2) := dk_16 6 (dk_at dksX0_rank_5 7 rfl rfl)
theorem dX0_rank_127 : decode cX0_rank 127 = .ok (.iload 4, 2) := dk_21 4 (dk_at dksX0_rank_5 9 rfl rfl)
theorem dX0_rank_129 : decode cX0_rank 129 = .ok (.imul, 1) := dk_104 (dk_at dksX0_rank_5 11 rfl rfl)
theorem dX0_rank_130 : decode cX0_rank 130 = .ok (.aload_n 0, 1) := dk_42 (dk_at dksX0_rank_5 12 rfl rfl)
theorem dX0_rank_131 : decode cX0_rank 131 = .ok (.iload_n 2, 1) := dk_28 (dk_at dksX0_rank_5 13 rfl rfl)
theorem dX0_rank_132 : decode cX0_rank 132 = .ok (.invokevirtual 188, 3) := dk_182 0 188 (dk_at dksX0_rank_5 14 rfl rfl)
theorem dX0_rank_135 : decode cX0_rank 135 = .ok (.iload 7, 2) := dk_21 7 (dk_at dksX0_rank_5 17 rfl rfl)
theorem dX0_rank_137 : decode cX0_rank 137 = .ok (.baload, 1) := dk_51 (dk_at dksX0_rank_5 19 rfl rfl)
theorem dX0_rank_138 : decode cX0_rank 138 = .ok (.iadd, 1) := dk_96 (dk_at dksX0_rank_5 20 rfl rfl)
theorem dX0_rank_139 : decode cX0_rank 139 = .ok (.iaload, 1) := dk_46 (dk_at dksX0_rank_5 21 rfl rfl)
theorem dX0_rank_140 : decode cX0_rank 140 = .ok (.istore 4, 2) := dk_54 4 (dk_at dksX0_rank_5 22 rfl rfl)
theorem dX0_rank_142 : decode cX0_rank 142 = .ok (.iload 4, 2) := dk_21 4 (dk_at dksX0_rank_6 0 rfl rfl)
theorem dX0_rank_144 : decode cX0_rank 144 = .ok (.bipush (-9), 2) := dk_16 247 (dk_at dksX0_rank_6 2 rfl rfl)
theorem dX0_rank_146 : decode cX0_rank 146 = .ok (.if_icmp .ne 6, 3) := dk_160 0 6 (dk_at dksX0_rank_6 4 rfl rfl)
theorem dX0_rank_149 : decode cX0_rank 149 = .ok (.bipush (-9), 2) := dk_16 247 (dk_at dksX0_rank_6 7 rfl rfl)
theorem dX0_rank_151 : decode cX0_rank 151 = .ok (.ireturn, 1) := dk_172 (dk_at dksX0_rank_6 9 rfl rfl)
theorem dX0_rank_152 : decode cX0_rank 152 = .ok (.iinc 7 1, 3) := dk_132 7 1 (dk_at dksX0_rank_6 10 rfl rfl)
theorem dX0_rank_155 : decode cX0_rank 155 = .ok (.goto (-124), 3) := dk_167 255 132 (dk_at dksX0_rank_6 13 rfl rfl)
theorem dX0_rank_158 : decode cX0_rank 158 = .ok (.aload_n 0, 1) := dk_42 (dk_at dksX0_rank_6 16 rfl rfl)
theorem dX0_rank_159 : decode cX0_rank 159 = .ok (.lload 5, 2) := dk_22 5 (dk_at dksX0_rank_6 17 rfl rfl)
theorem dX0_rank_161 : decode cX0_rank 161 = .ok (.iconst 1, 1) := dk_4 (dk_at dksX0_rank_6 19 rfl rfl)
theorem dX0_rank_162 : decode cX0_rank 162 = .ok (.invokevirtual 231, 3) := dk_182 0 231 (dk_at dksX0_rank_6 20 rfl rfl)
theorem dX0_rank_165 : decode cX0_rank 165 = .ok (.ireturn, 1) := dk_172 (dk_at dksX0_rank_6 23 rfl rfl)
abbrev cX0_byRank : ByteArray := prog_1_method_53_code
def yX0_byRank : MethodName := ⟨RX0, "byRank", "(IIII)I"⟩
def dkwX0_byRank_7 : List UInt8 := [167, 255, 169, 42, 180, 0, 34, 21, 4, 25, 6, 83, 28, 172]
abbrev dktX0_byRank_7 : List UInt8 := dkwX0_byRank_7 ++ []
def dkwX0_byRank_6 : List UInt8 := [21, 10, 21, 11, 79, 42, 180, 0, 53, 16, 6, 21, 7, 104, 21, 11, 96, 46, 54, 7, 132, 10, 1]
abbrev dktX0_byRank_6 : List UInt8 := dkwX0_byRank_6 ++ dktX0_byRank_7
def dkwX0_byRank_5 : List UInt8 := [132, 11, 1, 42, 21, 7, 21, 11, 28, 21, 10, 100, 4, 100, 182, 1, 0, 55, 12, 167, 255, 222, 25, 6]
abbrev dktX0_byRank_5 : List UInt8 := dkwX0_byRank_5 ++ dktX0_byRank_6
def dkwX0_byRank_4 : List UInt8 := [4, 100, 182, 1, 0, 55, 12, 22, 8, 22, 12, 148, 155, 0, 32, 22, 8, 22, 12, 101, 55, 8]
abbrev dktX0_byRank_4 : List UInt8 := dkwX0_byRank_4 ++ dktX0_byRank_5
def dkwX0_byRank_3 : List UInt8 := [133, 55, 8, 3, 54, 10, 21, 10, 28, 162, 0, 87, 3, 54, 11, 42, 21, 7, 21, 11, 28, 21, 10, 100]
abbrev dktX0_byRank_3 : List UInt8 := dkwX0_byRank_3 ++ dktX0_byRank_4
def dkwX0_byRank_2 : List UInt8 := [29, 133, 42, 180, 0, 65, 28, 47, 148, 155, 0, 6, 16, 247, 172, 28, 188, 10, 58, 6, 3, 54, 7, 29]
abbrev dktX0_byRank_2 : List UInt8 := dkwX0_byRank_2 ++ dktX0_byRank_3
def dkwX0_byRank_1 : List UInt8 := [42, 27, 182, 0, 195, 54, 5, 21, 5, 156, 0, 6, 21, 5, 172, 42, 42, 27, 182, 0, 188, 182, 0, 253]
abbrev dktX0_byRank_1 : List UInt8 := dkwX0_byRank_1 ++ dktX0_byRank_2
def dkwX0_byRank_0 : List UInt8 := [28, 3, 16, 40, 184, 0, 93, 153, 0, 15, 29, 155, 0, 11, 21, 4, 184, 0, 97, 154, 0, 5, 2, 172]
abbrev dktX0_byRank_0 : List UInt8 := dkwX0_byRank_0 ++ dktX0_byRank_1
theorem dksX0_byRank_0 : cX0_byRank.data.toList.drop 0 = dktX0_byRank_0 := by decide +kernel
theorem dksX0_byRank_1 : cX0_byRank.data.toList.drop 24 = dktX0_byRank_1 := dk_seg dksX0_byRank_0 24 rfl rfl
theorem dksX0_byRank_2 : cX0_byRank.data.toList.drop 48 = dktX0_byRank_2 := dk_seg dksX0_byRank_1 24 rfl rfl
theorem dksX0_byRank_3 : cX0_byRank.data.toList.drop 72 = dktX0_byRank_3 := dk_seg dksX0_byRank_2 24 rfl rfl
theorem dksX0_byRank_4 : cX0_byRank.data.toList.drop 96 = dktX0_byRank_4 := dk_seg dksX0_byRank_3 24 rfl rfl
theorem dksX0_byRank_5 : cX0_byRank.data.toList.drop 118 = dktX0_byRank_5 := dk_seg dksX0_byRank_4 22 rfl rfl
theorem dksX0_byRank_6 : cX0_byRank.data.toList.drop 142 = dktX0_byRank_6 := dk_seg dksX0_byRank_5 24 rfl rfl
theorem dksX0_byRank_7 : cX0_byRank.data.toList.drop 165 = dktX0_byRank_7 := dk_seg dksX0_byRank_6 23 rfl rfl
theorem dX0_byRank_0 : decode cX0_byRank 0 = .ok (.iload_n 2, 1) := dk_28 (dk_at dksX0_byRank_0 0 rfl rfl)
theorem dX0_byRank_1 : decode cX0_byRank 1 = .ok (.iconst 0, 1) := dk_3 (dk_at dksX0_byRank_0 1 rfl rfl)
theorem dX0_byRank_2 : decode cX0_byRank 2 = .ok (.bipush 40, 2) := dk_16 40 (dk_at dksX0_byRank_0 2 rfl rfl)
theorem dX0_byRank_4 : decode cX0_byRank 4 = .ok (.invokestatic 93, 3) := dk_184 0 93 (dk_at dksX0_byRank_0 4 rfl rfl)
theorem dX0_byRank_7 : decode cX0_byRank 7 = .ok (.ifCond .eq 15, 3) := dk_153 0 15 (dk_at dksX0_byRank_0 7 rfl rfl)
theorem dX0_byRank_10 : decode cX0_byRank 10 = .ok (.iload_n 3, 1) := dk_29 (dk_at dksX0_byRank_0 10 rfl rfl)
theorem dX0_byRank_11 : decode cX0_byRank 11 = .ok (.ifCond .lt 11, 3) := dk_155 0 11 (dk_at dksX0_byRank_0 11 rfl rfl)
theorem dX0_byRank_14 : decode cX0_byRank 14 = .ok (.iload 4, 2) := dk_21 4 (dk_at dksX0_byRank_0 14 rfl rfl)
theorem dX0_byRank_16 : decode cX0_byRank 16 = .ok (.invokestatic 97, 3) := dk_184 0 97 (dk_at dksX0_byRank_0 16 rfl rfl)
theorem dX0_byRank_19 : decode cX0_byRank 19 = .ok (.ifCond .ne 5, 3) := dk_154 0 5 (dk_at dksX0_byRank_0 19 rfl rfl)
theorem dX0_byRank_22 : decode cX0_byRank 22 = .ok (.iconst (-1), 1) := dk_2 (dk_at dksX0_byRank_0 22 rfl rfl)
theorem dX0_byRank_23 : decode cX0_byRank 23 = .ok (.ireturn, 1) := dk_172 (dk_at dksX0_byRank_0 23 rfl rfl)
theorem dX0_byRank_24 : decode cX0_byRank 24 = .ok (.aload_n 0, 1) := dk_42 (dk_at dksX0_byRank_1 0 rfl rfl)
theorem dX0_byRank_25 : decode cX0_byRank 25 = .ok (.iload_n 1, 1) := dk_27 (dk_at dksX0_byRank_1 1 rfl rfl)
theorem dX0_byRank_26 : decode cX0_byRank 26 = .ok (.invokevirtual 195, 3) := dk_182 0 195 (dk_at dksX0_byRank_1 2 rfl rfl)
theorem dX0_byRank_29 : decode cX0_byRank 29 = .ok (.istore 5, 2) := dk_54 5 (dk_at dksX0_byRank_1 5 rfl rfl)
theorem dX0_byRank_31 : decode cX0_byRank 31 = .ok (.iload 5, 2) := dk_21 5 (dk_at dksX0_byRank_1 7 rfl rfl)
theorem dX0_byRank_33 : decode cX0_byRank 33 = .ok (.ifCond .ge 6, 3) := dk_156 0 6 (dk_at dksX0_byRank_1 9 rfl rfl)
theorem dX0_byRank_36 : decode cX0_byRank 36 = .ok (.iload 5, 2) := dk_21 5 (dk_at dksX0_byRank_1 12 rfl rfl)
theorem dX0_byRank_38 : decode cX0_byRank 38 = .ok (.ireturn, 1) := dk_172 (dk_at dksX0_byRank_1 14 rfl rfl)
theorem dX0_byRank_39 : decode cX0_byRank 39 = .ok (.aload_n 0, 1) := dk_42 (dk_at dksX0_byRank_1 15 rfl rfl)
theorem dX0_byRank_40 : decode cX0_byRank 40 = .ok (.aload_n 0, 1) := dk_42 (dk_at dksX0_byRank_1 16 rfl rfl)
theorem dX0_byRank_41 : decode cX0_byRank 41 = .ok (.iload_n 1, 1) := dk_27 (dk_at dksX0_byRank_1 17 rfl rfl)
theorem dX0_byRank_42 : decode cX0_byRank 42 = .ok (.invokevirtual 188, 3) := dk_182 0 188 (dk_at dksX0_byRank_1 18 rfl rfl)
theorem dX0_byRank_45 : decode cX0_byRank 45 = .ok (.invokevirtual 253, 3) := dk_182 0 253 (dk_at dksX0_byRank_1 21 rfl rfl)
theorem dX0_byRank_48 : decode cX0_byRank 48 = .ok (.iload_n 3, 1) := dk_29 (dk_at dksX0_byRank_2 0 rfl rfl)
theorem dX0_byRank_49 : decode cX0_byRank 49 = .ok (.i2l, 1) := dk_133 (dk_at dksX0_byRank_2 1 rfl rfl)
theorem dX0_byRank_50 : decode cX0_byRank 50 = .ok (.aload_n 0, 1) := dk_42 (dk_at dksX0_byRank_2 2 rfl rfl)
theorem dX0_byRank_51 : decode cX0_byRank 51 = .ok (.getfield 65, 3) := dk_180 0 65 (dk_at dksX0_byRank_2 3 rfl rfl)
theorem dX0_byRank_54 : decode cX0_byRank 54 = .ok (.iload_n 2, 1) := dk_28 (dk_at dksX0_byRank_2 6 rfl rfl)
theorem dX0_byRank_55 : decode cX0_byRank 55 = .ok (.laload, 1) := dk_47 (dk_at dksX0_byRank_2 7 rfl rfl)
theorem dX0_byRank_56 : decode cX0_byRank 56 = .ok (.lcmp, 1) := dk_148 (dk_at dksX0_byRank_2 8 rfl rfl)
theorem dX0_byRank_57 : decode cX0_byRank 57 = .ok (.ifCond .lt 6, 3) := dk_155 0 6 (dk_at dksX0_byRank_2 9 rfl rfl)
theorem dX0_byRank_60 : decode cX0_byRank 60 = .ok (.bipush (-9), 2) := dk_16 247 (dk_at dksX0_byRank_2 12 rfl rfl)
theorem dX0_byRank_62 : decode cX0_byRank 62 = .ok (.ireturn, 1) := dk_172 (dk_at dksX0_byRank_2 14 rfl rfl)
theorem dX0_byRank_63 : decode cX0_byRank 63 = .ok (.iload_n 2, 1) := dk_28 (dk_at dksX0_byRank_2 15 rfl rfl)
theorem dX0_byRank_64 : decode cX0_byRank 64 = .ok (.newarray .int, 2) := dk_188_10 (dk_at dksX0_byRank_2 16 rfl rfl)
theorem dX0_byRank_66 : decode cX0_byRank 66 = .ok (.astore 6, 2) := dk_58 6 (dk_at dksX0_byRank_2 18 rfl rfl)
theorem dX0_byRank_68 : decode cX0_byRank 68 = .ok (.iconst 0, 1) := dk_3 (dk_at dksX0_byRank_2 20 rfl rfl)
theorem dX0_byRank_69 : decode cX0_byRank 69 = .ok (.istore 7, 2) := dk_54 7 (dk_at dksX0_byRank_2 21 rfl rfl)
theorem dX0_byRank_71 : decode cX0_byRank 71 = .ok (.iload_n 3, 1) := dk_29 (dk_at dksX0_byRank_2 23 rfl rfl)
theorem dX0_byRank_72 : decode cX0_byRank 72 = .ok (.i2l, 1) := dk_133 (dk_at dksX0_byRank_3 0 rfl rfl)
theorem dX0_byRank_73 : decode cX0_byRank 73 = .ok (.lstore 8, 2) := dk_55 8 (dk_at dksX0_byRank_3 1 rfl rfl)
theorem dX0_byRank_75 : decode cX0_byRank 75 = .ok (.iconst 0, 1) := dk_3 (dk_at dksX0_byRank_3 3 rfl rfl)
theorem dX0_byRank_76 : decode cX0_byRank 76 = .ok (.istore 10, 2) := dk_54 10 (dk_at dksX0_byRank_3 4 rfl rfl)
theorem dX0_byRank_78 : decode cX0_byRank 78 = .ok (.iload 10, 2) := dk_21 10 (dk_at dksX0_byRank_3 6 rfl rfl)
theorem dX0_byRank_80 : decode cX0_byRank 80 = .ok (.iload_n 2, 1) := dk_28 (dk_at dksX0_byRank_3 8 rfl rfl)
theorem dX0_byRank_81 : decode cX0_byRank 81 = .ok (.if_icmp .ge 87, 3) := dk_162 0 87 (dk_at dksX0_byRank_3 9 rfl rfl)
theorem dX0_byRank_84 : decode cX0_byRank 84 = .ok (.iconst 0, 1) := dk_3 (dk_at dksX0_byRank_3 12 rfl rfl)
theorem dX0_byRank_85 : decode cX0_byRank 85 = .ok (.istore 11, 2) := dk_54 11 (dk_at dksX0_byRank_3 13 rfl rfl)
theorem dX0_byRank_87 : decode cX0_byRank 87 = .ok (.aload_n 0, 1) := dk_42 (dk_at dksX0_byRank_3 15 rfl rfl)
theorem dX0_byRank_88 : decode cX0_byRank 88 = .ok (.iload 7, 2) := dk_21 7 (dk_at dksX0_byRank_3 16 rfl rfl)
theorem dX0_byRank_90 : decode cX0_byRank 90 = .ok (.iload 11, 2) := dk_21 11 (dk_at dksX0_byRank_3 18 rfl rfl)
theorem dX0_byRank_92 : decode cX0_byRank 92 = .ok (.iload_n 2, 1) := dk_28 (dk_at dksX0_byRank_3 20 rfl rfl)
theorem dX0_byRank_93 : decode cX0_byRank 93 = .ok (.iload 10, 2) := dk_21 10 (dk_at dksX0_byRank_3 21 rfl rfl)
theorem dX0_byRank_95 : decode cX0_byRank 95 = .ok (.isub, 1) := dk_100 (dk_at dksX0_byRank_3 23 rfl rfl)
theorem dX0_byRank_96 : decode cX0_byRank 96 = .ok (.iconst 1, 1) := dk_4 (dk_at dksX0_byRank_4 0 rfl rfl)
theorem dX0_byRank_97 : decode cX0_byRank 97 = .ok (.isub, 1) := dk_100 (dk_at dksX0_byRank_4 1 rfl rfl)
theorem dX0_byRank_98 : decode cX0_byRank 98 = .ok (.invokevirtual 256, 3) := dk_182 1 0 (dk_at dksX0_byRank_4 2 rfl rfl)
theorem dX0_byRank_101 : decode cX0_byRank 101 = .ok (.lstore 12, 2) := dk_55 12 (dk_at dksX0_byRank_4 5 rfl rfl)
theorem dX0_byRank_103 : decode cX0_byRank 103 = .ok (.lload 8, 2) := dk_22 8 (dk_at dksX0_byRank_4 7 rfl rfl)
theorem dX0_byRank_105 : decode cX0_byRank 105 = .ok (.lload 12, 2) := dk_22 12 (dk_at dksX0_byRank_4 9 rfl rfl)
theorem dX0_byRank_107 : decode cX0_byRank 107 = .ok (.lcmp, 1) := dk_148 (dk_at dksX0_byRank_4 11 rfl rfl)
theorem dX0_byRank_108 : decode cX0_byRank 108 = .ok (.ifCond .lt 32, 3) := dk_155 0 32 (dk_at dksX0_byRank_4 12 rfl rfl)
theorem dX0_byRank_111 : decode cX0_byRank 111 = .ok (.lload 8, 2) := dk_22 8 (dk_at dksX0_byRank_4 15 rfl rfl)
theorem dX0_byRank_113 : decode cX0_byRank 113 = .ok (.lload 12, 2) := dk_22 12 (dk_at dksX0_byRank_4 17 rfl rfl)
theorem dX0_byRank_115 : decode cX0_byRank 115 = .ok (.lsub, 1) := dk_101 (dk_at dksX0_byRank_4 19 rfl rfl)
theorem dX0_byRank_116 : decode cX0_byRank 116 = .ok (.lstore 8, 2) := dk_55 8 (dk_at dksX0_byRank_4 20 rfl rfl)
theorem dX0_byRank_118 : decode cX0_byRank 118 = .ok (.iinc 11 1, 3) := dk_132 11 1 (dk_at dksX0_byRank_5 0 rfl rfl)
theorem dX0_byRank_121 : decode cX0_byRank 121 = .ok (.aload_n 0, 1) := dk_42 (dk_at dksX0_byRank_5 3 rfl rfl)
theorem dX0_byRank_122 : decode cX0_byRank 122 = .ok (.iload 7, 2) := dk_21 7 (dk_at dksX0_byRank_5 4 rfl rfl)
theorem dX0_byRank_124 : decode cX0_byRank 124 = .ok (.iload 11, 2) := dk_21 11 (dk_at dksX0_byRank_5 6 rfl rfl)
theorem dX0_byRank_126 : decode cX0_byRank 126 = .ok (.iload_n 2, 1) := dk_28 (dk_at dksX0_byRank_5 8 rfl rfl)
theorem dX0_byRank_127 : decode cX0_byRank 127 = .ok (.iload 10, 2) := dk_21 10 (dk_at dksX0_byRank_5 9 rfl rfl)
theorem dX0_byRank_129 : decode cX0_byRank 129 = .ok (.isub, 1) := dk_100 (dk_at dksX0_byRank_5 11 rfl rfl)
theorem dX0_byRank_130 : decode cX0_byRank 130 = .ok (.iconst 1, 1) := dk_4 (dk_at dksX0_byRank_5 12 rfl rfl)
theorem dX0_byRank_131 : decode cX0_byRank 131 = .ok (.isub, 1) := dk_100 (dk_at dksX0_byRank_5 13 rfl rfl)
theorem dX0_byRank_132 : decode cX0_byRank 132 = .ok (.invokevirtual 256, 3) := dk_182 1 0 (dk_at dksX0_byRank_5 14 rfl rfl)
theorem dX0_byRank_135 : decode cX0_byRank 135 = .ok (.lstore 12, 2) := dk_55 12 (dk_at dksX0_byRank_5 17 rfl rfl)
theorem dX0_byRank_137 : decode cX0_byRank 137 = .ok (.goto (-34), 3) := dk_167 255 222 (dk_at dksX0_byRank_5 19 rfl rfl)
theorem dX0_byRank_140 : decode cX0_byRank 140 = .ok (.aload 6, 2) := dk_25 6 (dk_at dksX0_byRank_5 22 rfl rfl)
theorem dX0_byRank_142 : decode cX0_byRank 142 = .ok (.iload 10, 2) := dk_21 10 (dk_at dksX0_byRank_6 0 rfl rfl)
theorem dX0_byRank_144 : decode cX0_byRank 144 = .ok (.iload 11, 2) := dk_21 11 (dk_at dksX0_byRank_6 2 rfl rfl)
theorem dX0_byRank_146 : decode cX0_byRank 146 = .ok (.iastore, 1) := dk_79 (dk_at dksX0_byRank_6 4 rfl rfl)
theorem dX0_byRank_147 : decode cX0_byRank 147 = .ok (.aload_n 0, 1) := dk_42 (dk_at dksX0_byRank_6 5 rfl rfl)
theorem dX0_byRank_148 : decode cX0_byRank 148 = .ok (.getfield 53, 3) := dk_180 0 53 (dk_at dksX0_byRank_6 6 rfl rfl)
theorem dX0_byRank_151 : decode cX0_byRank 151 = .ok (.bipush 6, 2) := dk_16 6 (dk_at dksX0_byRank_6 9 rfl rfl)
theorem dX0_byRank_153 : decode cX0_byRank 153 = .ok (.iload 7, 2) := dk_21 7 (dk_at dksX0_byRank_6 11 rfl rfl)
theorem dX0_byRank_155 : decode cX0_byRank 155 = .ok (.imul, 1) := dk_104 (dk_at dksX0_byRank_6 13 rfl rfl)
theorem dX0_byRank_156 : decode cX0_byRank 156 = .ok (.iload 11, 2) := dk_21 11 (dk_at dksX0_byRank_6 14 rfl rfl)
theorem dX0_byRank_158 : decode cX0_byRank 158 = .ok (.iadd, 1) := dk_96 (dk_at dksX0_byRank_6 16 rfl rfl)
theorem dX0_byRank_159 : decode cX0_byRank 159 = .ok (.iaload, 1) := dk_46 (dk_at dksX0_byRank_6 17 rfl rfl)
theorem dX0_byRank_160 : decode cX0_byRank 160 = .ok (.istore 7, 2) := dk_54 7 (dk_at dksX0_byRank_6 18 rfl rfl)
theorem dX0_byRank_162 : decode cX0_byRank 162 = .ok (.iinc 10 1, 3) := dk_132 10 1 (dk_at dksX0_byRank_6 20 rfl rfl)
theorem dX0_byRank_165 : decode cX0_byRank 165 = .ok (.goto (-87), 3) := dk_167 255 169 (dk_at dksX0_byRank_7 0 rfl rfl)
theorem dX0_byRank_168 : decode cX0_byRank 168 = .ok (.aload_n 0, 1) := dk_42 (dk_at dksX0_byRank_7 3 rfl rfl)
theorem dX0_byRank_169 : decode cX0_byRank 169 = .ok (.getfield 34, 3) := dk_180 0 34 (dk_at dksX0_byRank_7 4 rfl rfl)
theorem dX0_byRank_172 : decode cX0_byRank 172 = .ok (.iload 4, 2) := dk_21 4 (dk_at dksX0_byRank_7 7 rfl rfl)
theorem dX0_byRank_174 : decode cX0_byRank 174 = .ok (.aload 6, 2) := dk_25 6 (dk_at dksX0_byRank_7 9 rfl rfl)
theorem dX0_byRank_176 : decode cX0_byRank 176 = .ok (.aastore, 1) := dk_83 (dk_at dksX0_byRank_7 11 rfl rfl)
theorem dX0_byRank_177 : decode cX0_byRank 177 = .ok (.iload_n 2, 1) := dk_28 (dk_at dksX0_byRank_7 12 rfl rfl)
theorem dX0_byRank_178 : decode cX0_byRank 178 = .ok (.ireturn, 1) := dk_172 (dk_at dksX0_byRank_7 13 rfl rfl)
abbrev cX0_from : ByteArray := prog_1_method_54_code
def yX0_from : MethodName := ⟨RX0, "from", "(III)J"⟩
def dkwX0_from_1 : List UInt8 := [42, 180, 0, 65, 16, 41, 21, 4, 104, 29, 96, 47, 173]
abbrev dktX0_from_1 : List UInt8 := dkwX0_from_1 ++ []
def dkwX0_from_0 : List UInt8 := [42, 180, 0, 53, 16, 6, 27, 104, 28, 96, 46, 54, 4, 21, 4, 16, 247, 160, 0, 7, 9, 167, 0, 15]
abbrev dktX0_from_0 : List UInt8 := dkwX0_from_0 ++ dktX0_from_1
theorem dksX0_from_0 : cX0_from.data.toList.drop 0 = dktX0_from_0 := by decide +kernel
theorem dksX0_from_1 : cX0_from.data.toList.drop 24 = dktX0_from_1 := dk_seg dksX0_from_0 24 rfl rfl
theorem dX0_from_0 : decode cX0_from 0 = .ok (.aload_n 0, 1) := dk_42 (dk_at dksX0_from_0 0 rfl rfl)
theorem dX0_from_1 : decode cX0_from 1 = .ok (.getfield 53, 3) := dk_180 0 53 (dk_at dksX0_from_0 1 rfl rfl)
theorem dX0_from_4 : decode cX0_from 4 = .ok (.bipush 6, 2) := dk_16 6 (dk_at dksX0_from_0 4 rfl rfl)
theorem dX0_from_6 : decode cX0_from 6 = .ok (.iload_n 1, 1) := dk_27 (dk_at dksX0_from_0 6 rfl rfl)
theorem dX0_from_7 : decode cX0_from 7 = .ok (.imul, 1) := dk_104 (dk_at dksX0_from_0 7 rfl rfl)
theorem dX0_from_8 : decode cX0_from 8 = .ok (.iload_n 2, 1) := dk_28 (dk_at dksX0_from_0 8 rfl rfl)
theorem dX0_from_9 : decode cX0_from 9 = .ok (.iadd, 1) := dk_96 (dk_at dksX0_from_0 9 rfl rfl)
theorem dX0_from_10 : decode cX0_from 10 = .ok (.iaload, 1) := dk_46 (dk_at dksX0_from_0 10 rfl rfl)
theorem dX0_from_11 : decode cX0_from 11 = .ok (.istore 4, 2) := dk_54 4 (dk_at dksX0_from_0 11 rfl rfl)
theorem dX0_from_13 : decode cX0_from 13 = .ok (.iload 4, 2) := dk_21 4 (dk_at dksX0_from_0 13 rfl rfl)
theorem dX0_from_15 : decode cX0_from 15 = .ok (.bipush (-9), 2) := dk_16 247 (dk_at dksX0_from_0 15 rfl rfl)
theorem dX0_from_17 : decode cX0_from 17 = .ok (.if_icmp .ne 7, 3) := dk_160 0 7 (dk_at dksX0_from_0 17 rfl rfl)
theorem dX0_from_20 : decode cX0_from 20 = .ok (.lconst 0, 1) := dk_9 (dk_at dksX0_from_0 20 rfl rfl)
theorem dX0_from_21 : decode cX0_from 21 = .ok (.goto 15, 3) := dk_167 0 15 (dk_at dksX0_from_0 21 rfl rfl)
theorem dX0_from_24 : decode cX0_from 24 = .ok (.aload_n 0, 1) := dk_42 (dk_at dksX0_from_1 0 rfl rfl)
theorem dX0_from_25 : decode cX0_from 25 = .ok (.getfield 65, 3) := dk_180 0 65 (dk_at dksX0_from_1 1 rfl rfl)
theorem dX0_from_28 : decode cX0_from 28 = .ok (.bipush 41, 2) := dk_16 41 (dk_at dksX0_from_1 4 rfl rfl)
theorem dX0_from_30 : decode cX0_from 30 = .ok (.iload 4, 2) := dk_21 4 (dk_at dksX0_from_1 6 rfl rfl)
theorem dX0_from_32 : decode cX0_from 32 = .ok (.imul, 1) := dk_104 (dk_at dksX0_from_1 8 rfl rfl)
theorem dX0_from_33 : decode cX0_from 33 = .ok (.iload_n 3, 1) := dk_29 (dk_at dksX0_from_1 9 rfl rfl)
theorem dX0_from_34 : decode cX0_from 34 = .ok (.iadd, 1) := dk_96 (dk_at dksX0_from_1 10 rfl rfl)
theorem dX0_from_35 : decode cX0_from 35 = .ok (.laload, 1) := dk_47 (dk_at dksX0_from_1 11 rfl rfl)
theorem dX0_from_36 : decode cX0_from 36 = .ok (.lreturn, 1) := dk_173 (dk_at dksX0_from_1 12 rfl rfl)
abbrev cX0_arches : ByteArray := prog_1_method_56_code
def yX0_arches : MethodName := ⟨RX0, "arches", "(I)I"⟩
def dkwX0_arches_1 : List UInt8 := [182, 0, 188, 190, 42, 180, 1, 6, 100, 42, 180, 1, 3, 182, 0, 111, 172]
abbrev dktX0_arches_1 : List UInt8 := dkwX0_arches_1 ++ []
def dkwX0_arches_0 : List UInt8 := [42, 27, 182, 0, 195, 61, 28, 156, 0, 5, 28, 172, 42, 42, 27, 182, 0, 188, 182, 1, 9, 42, 42, 27]
abbrev dktX0_arches_0 : List UInt8 := dkwX0_arches_0 ++ dktX0_arches_1
theorem dksX0_arches_0 : cX0_arches.data.toList.drop 0 = dktX0_arches_0 := by decide +kernel
theorem dksX0_arches_1 : cX0_arches.data.toList.drop 24 = dktX0_arches_1 := dk_seg dksX0_arches_0 24 rfl rfl
theorem dX0_arches_0 : decode cX0_arches 0 = .ok (.aload_n 0, 1) := dk_42 (dk_at dksX0_arches_0 0 rfl rfl)
theorem dX0_arches_1 : decode cX0_arches 1 = .ok (.iload_n 1, 1) := dk_27 (dk_at dksX0_arches_0 1 rfl rfl)
theorem dX0_arches_2 : decode cX0_arches 2 = .ok (.invokevirtual 195, 3) := dk_182 0 195 (dk_at dksX0_arches_0 2 rfl rfl)
theorem dX0_arches_5 : decode cX0_arches 5 = .ok (.istore_n 2, 1) := dk_61 (dk_at dksX0_arches_0 5 rfl rfl)
theorem dX0_arches_6 : decode cX0_arches 6 = .ok (.iload_n 2, 1) := dk_28 (dk_at dksX0_arches_0 6 rfl rfl)
theorem dX0_arches_7 : decode cX0_arches 7 = .ok (.ifCond .ge 5, 3) := dk_156 0 5 (dk_at dksX0_arches_0 7 rfl rfl)
theorem dX0_arches_10 : decode cX0_arches 10 = .ok (.iload_n 2, 1) := dk_28 (dk_at dksX0_arches_0 10 rfl rfl)
theorem dX0_arches_11 : decode cX0_arches 11 = .ok (.ireturn, 1) := dk_172 (dk_at dksX0_arches_0 11 rfl rfl)
theorem dX0_arches_12 : decode cX0_arches 12 = .ok (.aload_n 0, 1) := dk_42 (dk_at dksX0_arches_0 12 rfl rfl)
theorem dX0_arches_13 : decode cX0_arches 13 = .ok (.aload_n 0, 1) := dk_42 (dk_at dksX0_arches_0 13 rfl rfl)
theorem dX0_arches_14 : decode cX0_arches 14 = .ok (.iload_n 1, 1) := dk_27 (dk_at dksX0_arches_0 14 rfl rfl)
theorem dX0_arches_15 : decode cX0_arches 15 = .ok (.invokevirtual 188, 3) := dk_182 0 188 (dk_at dksX0_arches_0 15 rfl rfl)
theorem dX0_arches_18 : decode cX0_arches 18 = .ok (.invokevirtual 265, 3) := dk_182 1 9 (dk_at dksX0_arches_0 18 rfl rfl)
theorem dX0_arches_21 : decode cX0_arches 21 = .ok (.aload_n 0, 1) := dk_42 (dk_at dksX0_arches_0 21 rfl rfl)
theorem dX0_arches_22 : decode cX0_arches 22 = .ok (.aload_n 0, 1) := dk_42 (dk_at dksX0_arches_0 22 rfl rfl)
theorem dX0_arches_23 : decode cX0_arches 23 = .ok (.iload_n 1, 1) := dk_27 (dk_at dksX0_arches_0 23 rfl rfl)
theorem dX0_arches_24 : decode cX0_arches 24 = .ok (.invokevirtual 188, 3) := dk_182 0 188 (dk_at dksX0_arches_1 0 rfl rfl)
theorem dX0_arches_27 : decode cX0_arches 27 = .ok (.arraylength, 1) := dk_190 (dk_at dksX0_arches_1 3 rfl rfl)
theorem dX0_arches_28 : decode cX0_arches 28 = .ok (.aload_n 0, 1) := dk_42 (dk_at dksX0_arches_1 4 rfl rfl)
theorem dX0_arches_29 : decode cX0_arches 29 = .ok (.getfield 262, 3) := dk_180 1 6 (dk_at dksX0_arches_1 5 rfl rfl)
theorem dX0_arches_32 : decode cX0_arches 32 = .ok (.isub, 1) := dk_100 (dk_at dksX0_arches_1 8 rfl rfl)
theorem dX0_arches_33 : decode cX0_arches 33 = .ok (.aload_n 0, 1) := dk_42 (dk_at dksX0_arches_1 9 rfl rfl)
theorem dX0_arches_34 : decode cX0_arches 34 = .ok (.getfield 259, 3) := dk_180 1 3 (dk_at dksX0_arches_1 10 rfl rfl)
theorem dX0_arches_37 : decode cX0_arches 37 = .ok (.invokevirtual 111, 3) := dk_182 0 111 (dk_at dksX0_arches_1 13 rfl rfl)
theorem dX0_arches_40 : decode cX0_arches 40 = .ok (.ireturn, 1) := dk_172 (dk_at dksX0_arches_1 16 rfl rfl)
abbrev cX0_setArches : ByteArray := prog_1_method_55_code
def yX0_setArches : MethodName := ⟨RX0, "setArches", "([B)V"⟩
def dkwX0_setArches_2 : List UInt8 := [181, 1, 3, 42, 29, 4, 96, 181, 1, 6, 3, 61, 132, 3, 1, 167, 255, 208, 177]
abbrev dktX0_setArches_2 : List UInt8 := dkwX0_setArches_2 ++ []
def dkwX0_setArches_1 : List UInt8 := [51, 120, 128, 61, 28, 4, 42, 180, 0, 30, 120, 4, 100, 160, 0, 22, 42, 89, 180, 1, 3, 4, 96]
abbrev dktX0_setArches_1 : List UInt8 := dkwX0_setArches_1 ++ dktX0_setArches_2
def dkwX0_setArches_0 : List UInt8 := [42, 3, 181, 1, 3, 42, 3, 181, 1, 6, 3, 61, 3, 62, 29, 43, 190, 162, 0, 48, 28, 4, 43, 29]
abbrev dktX0_setArches_0 : List UInt8 := dkwX0_setArches_0 ++ dktX0_setArches_1
theorem dksX0_setArches_0 : cX0_setArches.data.toList.drop 0 = dktX0_setArches_0 := by decide +kernel
theorem dksX0_setArches_1 : cX0_setArches.data.toList.drop 24 = dktX0_setArches_1 := dk_seg dksX0_setArches_0 24 rfl rfl
theorem dksX0_setArches_2 : cX0_setArches.data.toList.drop 47 = dktX0_setArches_2 := dk_seg dksX0_setArches_1 23 rfl rfl
theorem dX0_setArches_0 : decode cX0_setArches 0 = .ok (.aload_n 0, 1) := dk_42 (dk_at dksX0_setArches_0 0 rfl rfl)
theorem dX0_setArches_1 : decode cX0_setArches 1 = .ok (.iconst 0, 1) := dk_3 (dk_at dksX0_setArches_0 1 rfl rfl)
theorem dX0_setArches_2 : decode cX0_setArches 2 = .ok (.putfield 259, 3) := dk_181 1 3 (dk_at dksX0_setArches_0 2 rfl rfl)
theorem dX0_setArches_5 : decode cX0_setArches 5 = .ok (.aload_n 0, 1) := dk_42 (dk_at dksX0_setArches_0 5 rfl rfl)
theorem dX0_setArches_6 : decode cX0_setArches 6 = .ok (.iconst 0, 1) := dk_3 (dk_at dksX0_setArches_0 6 rfl rfl)
theorem dX0_setArches_7 : decode cX0_setArches 7 = .ok (.putfield 262, 3) := dk_181 1 6 (dk_at dksX0_setArches_0 7 rfl rfl)
theorem dX0_setArches_10 : decode cX0_setArches 10 = .ok (.iconst 0, 1) := dk_3 (dk_at dksX0_setArches_0 10 rfl rfl)
theorem dX0_setArches_11 : decode cX0_setArches 11 = .ok (.istore_n 2, 1) := dk_61 (dk_at dksX0_setArches_0 11 rfl rfl)
theorem dX0_setArches_12 : decode cX0_setArches 12 = .ok (.iconst 0, 1) := dk_3 (dk_at dksX0_setArches_0 12 rfl rfl)
theorem dX0_setArches_13 : decode cX0_setArches 13 = .ok (.istore_n 3, 1) := dk_62 (dk_at dksX0_setArches_0 13 rfl rfl)
theorem dX0_setArches_14 : decode cX0_setArches 14 = .ok (.iload_n 3, 1) := dk_29 (dk_at dksX0_setArches_0 14 rfl rfl)
theorem dX0_setArches_15 : decode cX0_setArches 15 = .ok (.aload_n 1, 1) := dk_43 (dk_at dksX0_setArches_0 15 rfl rfl)
theorem dX0_setArches_16 : decode cX0_setArches 16 = .ok (.arraylength, 1) := dk_190 (dk_at dksX0_setArches_0 16 rfl rfl)
theorem dX0_setArches_17 : decode cX0_setArches 17 = .ok (.if_icmp .ge 48, 3) := dk_162 0 48 (dk_at dksX0_setArches_0 17 rfl rfl)
theorem dX0_setArches_20 : decode cX0_setArches 20 = .ok (.iload_n 2, 1) := dk_28 (dk_at dksX0_setArches_0 20 rfl rfl)
theorem dX0_setArches_21 : decode cX0_setArches 21 = .ok (.iconst 1, 1) := dk_4 (dk_at dksX0_setArches_0 21 rfl rfl)
theorem dX0_setArches_22 : decode cX0_setArches 22 = .ok (.aload_n 1, 1) := dk_43 (dk_at dksX0_setArches_0 22 rfl rfl)
theorem dX0_setArches_23 : decode cX0_setArches 23 = .ok (.iload_n 3, 1) := dk_29 (dk_at dksX0_setArches_0 23 rfl rfl)
theorem dX0_setArches_24 : decode cX0_setArches 24 = .ok (.baload, 1) := dk_51 (dk_at dksX0_setArches_1 0 rfl rfl)
theorem dX0_setArches_25 : decode cX0_setArches 25 = .ok (.ishl, 1) := dk_120 (dk_at dksX0_setArches_1 1 rfl rfl)
theorem dX0_setArches_26 : decode cX0_setArches 26 = .ok (.ior, 1) := dk_128 (dk_at dksX0_setArches_1 2 rfl rfl)
theorem dX0_setArches_27 : decode cX0_setArches 27 = .ok (.istore_n 2, 1) := dk_61 (dk_at dksX0_setArches_1 3 rfl rfl)
theorem dX0_setArches_28 : decode cX0_setArches 28 = .ok (.iload_n 2, 1) := dk_28 (dk_at dksX0_setArches_1 4 rfl rfl)
theorem dX0_setArches_29 : decode cX0_setArches 29 = .ok (.iconst 1, 1) := dk_4 (dk_at dksX0_setArches_1 5 rfl rfl)
theorem dX0_setArches_30 : decode cX0_setArches 30 = .ok (.aload_n 0, 1) := dk_42 (dk_at dksX0_setArches_1 6 rfl rfl)
theorem dX0_setArches_31 : decode cX0_setArches 31 = .ok (.getfield 30, 3) := dk_180 0 30 (dk_at dksX0_setArches_1 7 rfl rfl)
theorem dX0_setArches_34 : decode cX0_setArches 34 = .ok (.ishl, 1) := dk_120 (dk_at dksX0_setArches_1 10 rfl rfl)
theorem dX0_setArches_35 : decode cX0_setArches 35 = .ok (.iconst 1, 1) := dk_4 (dk_at dksX0_setArches_1 11 rfl rfl)
theorem dX0_setArches_36 : decode cX0_setArches 36 = .ok (.isub, 1) := dk_100 (dk_at dksX0_setArches_1 12 rfl rfl)
theorem dX0_setArches_37 : decode cX0_setArches 37 = .ok (.if_icmp .ne 22, 3) := dk_160 0 22 (dk_at dksX0_setArches_1 13 rfl rfl)
theorem dX0_setArches_40 : decode cX0_setArches 40 = .ok (.aload_n 0, 1) := dk_42 (dk_at dksX0_setArches_1 16 rfl rfl)
theorem dX0_setArches_41 : decode cX0_setArches 41 = .ok (.dup, 1) := dk_89 (dk_at dksX0_setArches_1 17 rfl rfl)
theorem dX0_setArches_42 : decode cX0_setArches 42 = .ok (.getfield 259, 3) := dk_180 1 3 (dk_at dksX0_setArches_1 18 rfl rfl)
theorem dX0_setArches_45 : decode cX0_setArches 45 = .ok (.iconst 1, 1) := dk_4 (dk_at dksX0_setArches_1 21 rfl rfl)
theorem dX0_setArches_46 : decode cX0_setArches 46 = .ok (.iadd, 1) := dk_96 (dk_at dksX0_setArches_1 22 rfl rfl)
theorem dX0_setArches_47 : decode cX0_setArches 47 = .ok (.putfield 259, 3) := dk_181 1 3 (dk_at dksX0_setArches_2 0 rfl rfl)
theorem dX0_setArches_50 : decode cX0_setArches 50 = .ok (.aload_n 0, 1) := dk_42 (dk_at dksX0_setArches_2 3 rfl rfl)
theorem dX0_setArches_51 : decode cX0_setArches 51 = .ok (.iload_n 3, 1) := dk_29 (dk_at dksX0_setArches_2 4 rfl rfl)
theorem dX0_setArches_52 : decode cX0_setArches 52 = .ok (.iconst 1, 1) := dk_4 (dk_at dksX0_setArches_2 5 rfl rfl)
theorem dX0_setArches_53 : decode cX0_setArches 53 = .ok (.iadd, 1) := dk_96 (dk_at dksX0_setArches_2 6 rfl rfl)
theorem dX0_setArches_54 : decode cX0_setArches 54 = .ok (.putfield 262, 3) := dk_181 1 6 (dk_at dksX0_setArches_2 7 rfl rfl)
theorem dX0_setArches_57 : decode cX0_setArches 57 = .ok (.iconst 0, 1) := dk_3 (dk_at dksX0_setArches_2 10 rfl rfl)
theorem dX0_setArches_58 : decode cX0_setArches 58 = .ok (.istore_n 2, 1) := dk_61 (dk_at dksX0_setArches_2 11 rfl rfl)
theorem dX0_setArches_59 : decode cX0_setArches 59 = .ok (.iinc 3 1, 3) := dk_132 3 1 (dk_at dksX0_setArches_2 12 rfl rfl)
theorem dX0_setArches_62 : decode cX0_setArches 62 = .ok (.goto (-48), 3) := dk_167 255 208 (dk_at dksX0_setArches_2 15 rfl rfl)
theorem dX0_setArches_65 : decode cX0_setArches 65 = .ok (.return_, 1) := dk_177 (dk_at dksX0_setArches_2 18 rfl rfl)
abbrev cX0_absent : ByteArray := prog_1_method_57_code
def yX0_absent : MethodName := ⟨RX0, "absent", "(II)I"⟩
def dkwX0_absent_12 : List UInt8 := [167, 0, 11, 42, 180, 0, 34, 28, 25, 8, 83, 42, 25, 6, 3, 47, 25, 8, 190, 182, 0, 231, 172]
abbrev dktX0_absent_12 : List UInt8 := dkwX0_absent_12 ++ []
def dkwX0_absent_11 : List UInt8 := [132, 10, 1, 167, 255, 217, 25, 8, 190, 16, 40, 164, 0, 15, 42, 28, 25, 8, 16, 40, 182, 0, 239]
abbrev dktX0_absent_11 : List UInt8 := dkwX0_absent_11 ++ dktX0_absent_12
def dkwX0_absent_10 : List UInt8 := [25, 7, 21, 9, 46, 79, 42, 180, 0, 53, 16, 6, 21, 9, 104, 25, 7, 21, 9, 46, 96, 46, 54, 9]
abbrev dktX0_absent_10 : List UInt8 := dkwX0_absent_10 ++ dktX0_absent_11
def dkwX0_absent_9 : List UInt8 := [3, 46, 188, 10, 58, 8, 3, 54, 9, 3, 54, 10, 21, 10, 25, 8, 190, 162, 0, 37, 25, 8, 21, 10]
abbrev dktX0_absent_9 : List UInt8 := dkwX0_absent_9 ++ dktX0_absent_10
def dkwX0_absent_8 : List UInt8 := [25, 6, 21, 8, 92, 47, 22, 12, 97, 80, 132, 9, 1, 167, 255, 132, 132, 8, 255, 167, 255, 118, 25, 5]
abbrev dktX0_absent_8 : List UInt8 := dkwX0_absent_8 ++ dktX0_absent_9
def dkwX0_absent_7 : List UInt8 := [22, 12, 80, 25, 7, 21, 8, 21, 9, 79, 167, 0, 23, 21, 11, 25, 5, 21, 8, 46, 160, 0, 13]
abbrev dktX0_absent_7 : List UInt8 := dkwX0_absent_7 ++ dktX0_absent_8
def dkwX0_absent_6 : List UInt8 := [153, 0, 13, 21, 11, 25, 5, 21, 8, 46, 162, 0, 27, 25, 5, 21, 8, 21, 11, 79, 25, 6, 21, 8]
abbrev dktX0_absent_6 : List UInt8 := dkwX0_absent_6 ++ dktX0_absent_7
def dkwX0_absent_5 : List UInt8 := [54, 11, 21, 10, 16, 247, 160, 0, 7, 10, 167, 0, 8, 25, 6, 21, 10, 47, 55, 12, 21, 9]
abbrev dktX0_absent_5 : List UInt8 := dkwX0_absent_5 ++ dktX0_absent_6
def dkwX0_absent_4 : List UInt8 := [21, 9, 96, 46, 54, 10, 21, 10, 16, 247, 160, 0, 7, 4, 167, 0, 10, 25, 5, 21, 10, 46, 4, 96]
abbrev dktX0_absent_4 : List UInt8 := dkwX0_absent_4 ++ dktX0_absent_5
def dkwX0_absent_3 : List UInt8 := [155, 0, 139, 3, 54, 9, 21, 9, 42, 180, 0, 30, 162, 0, 121, 42, 180, 0, 53, 16, 6, 21, 8, 104]
abbrev dktX0_absent_3 : List UInt8 := dkwX0_absent_3 ++ dktX0_absent_4
def dkwX0_absent_2 : List UInt8 := [58, 5, 21, 4, 4, 96, 188, 11, 58, 6, 21, 4, 4, 96, 188, 10, 58, 7, 21, 4, 54, 8, 21, 8]
abbrev dktX0_absent_2 : List UInt8 := dkwX0_absent_2 ++ dktX0_absent_3
def dkwX0_absent_1 : List UInt8 := [182, 0, 188, 42, 180, 0, 53, 184, 0, 249, 42, 27, 182, 0, 188, 190, 54, 4, 21, 4, 4, 96, 188, 10]
abbrev dktX0_absent_1 : List UInt8 := dkwX0_absent_1 ++ dktX0_absent_2
def dkwX0_absent_0 : List UInt8 := [28, 184, 0, 97, 154, 0, 5, 2, 172, 42, 27, 182, 0, 195, 62, 29, 156, 0, 5, 29, 172, 42, 27]
abbrev dktX0_absent_0 : List UInt8 := dkwX0_absent_0 ++ dktX0_absent_1
theorem dksX0_absent_0 : cX0_absent.data.toList.drop 0 = dktX0_absent_0 := by decide +kernel
theorem dksX0_absent_1 : cX0_absent.data.toList.drop 23 = dktX0_absent_1 := dk_seg dksX0_absent_0 23 rfl rfl
theorem dksX0_absent_2 : cX0_absent.data.toList.drop 47 = dktX0_absent_2 := dk_seg dksX0_absent_1 24 rfl rfl
theorem dksX0_absent_3 : cX0_absent.data.toList.drop 71 = dktX0_absent_3 := dk_seg dksX0_absent_2 24 rfl rfl
theorem dksX0_absent_4 : cX0_absent.data.toList.drop 95 = dktX0_absent_4 := dk_seg dksX0_absent_3 24 rfl rfl
theorem dksX0_absent_5 : cX0_absent.data.toList.drop 119 = dktX0_absent_5 := dk_seg dksX0_absent_4 24 rfl rfl
theorem dksX0_absent_6 : cX0_absent.data.toList.drop 141 = dktX0_absent_6 := dk_seg dksX0_absent_5 22 rfl rfl
theorem dksX0_absent_7 : cX0_absent.data.toList.drop 165 = dktX0_absent_7 := dk_seg dksX0_absent_6 24 rfl rfl
theorem dksX0_absent_8 : cX0_absent.data.toList.drop 188 = dktX0_absent_8 := dk_seg dksX0_absent_7 23 rfl rfl
theorem dksX0_absent_9 : cX0_absent.data.toList.drop 212 = dktX0_absent_9 := dk_seg dksX0_absent_8 24 rfl rfl
theorem dksX0_absent_10 : cX0_absent.data.toList.drop 236 = dktX0_absent_10 := dk_seg dksX0_absent_9 24 rfl rfl
theorem dksX0_absent_11 : cX0_absent.data.toList.drop 260 = dktX0_absent_11 := dk_seg dksX0_absent_10 24 rfl rfl
theorem dksX0_absent_12 : cX0_absent.data.toList.drop 283 = dktX0_absent_12 := dk_seg dksX0_absent_11 23 rfl rfl
theorem dX0_absent_0 : decode cX0_absent 0 = .ok (.iload_n 2, 1) := dk_28 (dk_at dksX0_absent_0 0 rfl rfl)
theorem dX0_absent_1 : decode cX0_absent 1 = .ok (.invokestatic 97, 3) := dk_184 0 97 (dk_at dksX0_absent_0 1 rfl rfl)
theorem dX0_absent_4 : decode cX0_absent 4 = .ok (.ifCond .ne 5, 3) := dk_154 0 5 (dk_at dksX0_absent_0 4 rfl rfl)
theorem dX0_absent_7 : decode cX0_absent 7 = .ok (.iconst (-1), 1) := dk_2 (dk_at dksX0_absent_0 7 rfl rfl)
theorem dX0_absent_8 : decode cX0_absent 8 = .ok (.ireturn, 1) := dk_172 (dk_at dksX0_absent_0 8 rfl rfl)
theorem dX0_absent_9 : decode cX0_absent 9 = .ok (.aload_n 0, 1) := dk_42 (dk_at dksX0_absent_0 9 rfl rfl)
theorem dX0_absent_10 : decode cX0_absent 10 = .ok (.iload_n 1, 1) := dk_27 (dk_at dksX0_absent_0 10 rfl rfl)
theorem dX0_absent_11 : decode cX0_absent 11 = .ok (.invokevirtual 195, 3) := dk_182 0 195 (dk_at dksX0_absent_0 11 rfl rfl)
theorem dX0_absent_14 : decode cX0_absent 14 = .ok (.istore_n 3, 1) := dk_62 (dk_at dksX0_absent_0 14 rfl rfl)
theorem dX0_absent_15 : decode cX0_absent 15 = .ok (.iload_n 3, 1) := dk_29 (dk_at dksX0_absent_0 15 rfl rfl)
theorem dX0_absent_16 : decode cX0_absent 16 = .ok (.ifCond .ge 5, 3) := dk_156 0 5 (dk_at dksX0_absent_0 16 rfl rfl)
theorem dX0_absent_19 : decode cX0_absent 19 = .ok (.iload_n 3, 1) := dk_29 (dk_at dksX0_absent_0 19 rfl rfl)
theorem dX0_absent_20 : decode cX0_absent 20 = .ok (.ireturn, 1) := dk_172 (dk_at dksX0_absent_0 20 rfl rfl)
theorem dX0_absent_21 : decode cX0_absent 21 = .ok (.aload_n 0, 1) := dk_42 (dk_at dksX0_absent_0 21 rfl rfl)
theorem dX0_absent_22 : decode cX0_absent 22 = .ok (.iload_n 1, 1) := dk_27 (dk_at dksX0_absent_0 22 rfl rfl)
theorem dX0_absent_23 : decode cX0_absent 23 = .ok (.invokevirtual 188, 3) := dk_182 0 188 (dk_at dksX0_absent_1 0 rfl rfl)
theorem dX0_absent_26 : decode cX0_absent 26 = .ok (.aload_n 0, 1) := dk_42 (dk_at dksX0_absent_1 3 rfl rfl)
theorem dX0_absent_27 : decode cX0_absent 27 = .ok (.getfield 53, 3) := dk_180 0 53 (dk_at dksX0_absent_1 4 rfl rfl)
theorem dX0_absent_30 : decode cX0_absent 30 = .ok (.invokestatic 249, 3) := dk_184 0 249 (dk_at dksX0_absent_1 7 rfl rfl)
theorem dX0_absent_33 : decode cX0_absent 33 = .ok (.aload_n 0, 1) := dk_42 (dk_at dksX0_absent_1 10 rfl rfl)
theorem dX0_absent_34 : decode cX0_absent 34 = .ok (.iload_n 1, 1) := dk_27 (dk_at dksX0_absent_1 11 rfl rfl)
theorem dX0_absent_35 : decode cX0_absent 35 = .ok (.invokevirtual 188, 3) := dk_182 0 188 (dk_at dksX0_absent_1 12 rfl rfl)
theorem dX0_absent_38 : decode cX0_absent 38 = .ok (.arraylength, 1) := dk_190 (dk_at dksX0_absent_1 15 rfl rfl)
theorem dX0_absent_39 : decode cX0_absent 39 = .ok (.istore 4, 2) := dk_54 4 (dk_at dksX0_absent_1 16 rfl rfl)
theorem dX0_absent_41 : decode cX0_absent 41 = .ok (.iload 4, 2) := dk_21 4 (dk_at dksX0_absent_1 18 rfl rfl)
theorem dX0_absent_43 : decode cX0_absent 43 = .ok (.iconst 1, 1) := dk_4 (dk_at dksX0_absent_1 20 rfl rfl)
theorem dX0_absent_44 : decode cX0_absent 44 = .ok (.iadd, 1) := dk_96 (dk_at dksX0_absent_1 21 rfl rfl)
theorem dX0_absent_45 : decode cX0_absent 45 = .ok (.newarray .int, 2) := dk_188_10 (dk_at dksX0_absent_1 22 rfl rfl)
theorem dX0_absent_47 : decode cX0_absent 47 = .ok (.astore 5, 2) := dk_58 5 (dk_at dksX0_absent_2 0 rfl rfl)
theorem dX0_absent_49 : decode cX0_absent 49 = .ok (.iload 4, 2) := dk_21 4 (dk_at dksX0_absent_2 2 rfl rfl)
theorem dX0_absent_51 : decode cX0_absent 51 = .ok (.iconst 1, 1) := dk_4 (dk_at dksX0_absent_2 4 rfl rfl)
theorem dX0_absent_52 : decode cX0_absent 52 = .ok (.iadd, 1) := dk_96 (dk_at dksX0_absent_2 5 rfl rfl)
theorem dX0_absent_53 : decode cX0_absent 53 = .ok (.newarray .long, 2) := dk_188_11 (dk_at dksX0_absent_2 6 rfl rfl)
theorem dX0_absent_55 : decode cX0_absent 55 = .ok (.astore 6, 2) := dk_58 6 (dk_at dksX0_absent_2 8 rfl rfl)
theorem dX0_absent_57 : decode cX0_absent 57 = .ok (.iload 4, 2) := dk_21 4 (dk_at dksX0_absent_2 10 rfl rfl)
theorem dX0_absent_59 : decode cX0_absent 59 = .ok (.iconst 1, 1) := dk_4 (dk_at dksX0_absent_2 12 rfl rfl)
theorem dX0_absent_60 : decode cX0_absent 60 = .ok (.iadd, 1) := dk_96 (dk_at dksX0_absent_2 13 rfl rfl)
theorem dX0_absent_61 : decode cX0_absent 61 = .ok (.newarray .int, 2) := dk_188_10 (dk_at dksX0_absent_2 14 rfl rfl)
theorem dX0_absent_63 : decode cX0_absent 63 = .ok (.astore 7, 2) := dk_58 7 (dk_at dksX0_absent_2 16 rfl rfl)
theorem dX0_absent_65 : decode cX0_absent 65 = .ok (.iload 4, 2) := dk_21 4 (dk_at dksX0_absent_2 18 rfl rfl)
theorem dX0_absent_67 : decode cX0_absent 67 = .ok (.istore 8, 2) := dk_54 8 (dk_at dksX0_absent_2 20 rfl rfl)
theorem dX0_absent_69 : decode cX0_absent 69 = .ok (.iload 8, 2) := dk_21 8 (dk_at dksX0_absent_2 22 rfl rfl)
theorem dX0_absent_71 : decode cX0_absent 71 = .ok (.ifCond .lt 139, 3) := dk_155 0 139 (dk_at dksX0_absent_3 0 rfl rfl)
theorem dX0_absent_74 : decode cX0_absent 74 = .ok (.iconst 0, 1) := dk_3 (dk_at dksX0_absent_3 3 rfl rfl)
theorem dX0_absent_75 : decode cX0_absent 75 = .ok (.istore 9, 2) := dk_54 9 (dk_at dksX0_absent_3 4 rfl rfl)
theorem dX0_absent_77 : decode cX0_absent 77 = .ok (.iload 9, 2) := dk_21 9 (dk_at dksX0_absent_3 6 rfl rfl)
theorem dX0_absent_79 : decode cX0_absent 79 = .ok (.aload_n 0, 1) := dk_42 (dk_at dksX0_absent_3 8 rfl rfl)
theorem dX0_absent_80 : decode cX0_absent 80 = .ok (.getfield 30, 3) := dk_180 0 30 (dk_at dksX0_absent_3 9 rfl rfl)
theorem dX0_absent_83 : decode cX0_absent 83 = .ok (.if_icmp .ge 121, 3) := dk_162 0 121 (dk_at dksX0_absent_3 12 rfl rfl)
theorem dX0_absent_86 : decode cX0_absent 86 = .ok (.aload_n 0, 1) := dk_42 (dk_at dksX0_absent_3 15 rfl rfl)
theorem dX0_absent_87 : decode cX0_absent 87 = .ok (.getfield 53, 3) := dk_180 0 53 (dk_at dksX0_absent_3 16 rfl rfl)
theorem dX0_absent_90 : decode cX0_absent 90 = .ok (.bipush 6, 2) := dk_16 6 (dk_at dksX0_absent_3 19 rfl rfl)
theorem dX0_absent_92 : decode cX0_absent 92 = .ok (.iload 8, 2) := dk_21 8 (dk_at dksX0_absent_3 21 rfl rfl)
theorem dX0_absent_94 : decode cX0_absent 94 = .ok (.imul, 1) := dk_104 (dk_at dksX0_absent_3 23 rfl rfl)
theorem dX0_absent_95 : decode cX0_absent 95 = .ok (.iload 9, 2) := dk_21 9 (dk_at dksX0_absent_4 0 rfl rfl)
theorem dX0_absent_97 : decode cX0_absent 97 = .ok (.iadd, 1) := dk_96 (dk_at dksX0_absent_4 2 rfl rfl)
theorem dX0_absent_98 : decode cX0_absent 98 = .ok (.iaload, 1) := dk_46 (dk_at dksX0_absent_4 3 rfl rfl)
theorem dX0_absent_99 : decode cX0_absent 99 = .ok (.istore 10, 2) := dk_54 10 (dk_at dksX0_absent_4 4 rfl rfl)
theorem dX0_absent_101 : decode cX0_absent 101 = .ok (.iload 10, 2) := dk_21 10 (dk_at dksX0_absent_4 6 rfl rfl)
theorem dX0_absent_103 : decode cX0_absent 103 = .ok (.bipush (-9), 2) := dk_16 247 (dk_at dksX0_absent_4 8 rfl rfl)
theorem dX0_absent_105 : decode cX0_absent 105 = .ok (.if_icmp .ne 7, 3) := dk_160 0 7 (dk_at dksX0_absent_4 10 rfl rfl)
theorem dX0_absent_108 : decode cX0_absent 108 = .ok (.iconst 1, 1) := dk_4 (dk_at dksX0_absent_4 13 rfl rfl)
theorem dX0_absent_109 : decode cX0_absent 109 = .ok (.goto 10, 3) := dk_167 0 10 (dk_at dksX0_absent_4 14 rfl rfl)
theorem dX0_absent_112 : decode cX0_absent 112 = .ok (.aload 5, 2) := dk_25 5 (dk_at dksX0_absent_4 17 rfl rfl)
theorem dX0_absent_114 : decode cX0_absent 114 = .ok (.iload 10, 2) := dk_21 10 (dk_at dksX0_absent_4 19 rfl rfl)
theorem dX0_absent_116 : decode cX0_absent 116 = .ok (.iaload, 1) := dk_46 (dk_at dksX0_absent_4 21 rfl rfl)
theorem dX0_absent_117 : decode cX0_absent 117 = .ok (.iconst 1, 1) := dk_4 (dk_at dksX0_absent_4 22 rfl rfl)
theorem dX0_absent_118 : decode cX0_absent 118 = .ok (.iadd, 1) := dk_96 (dk_at dksX0_absent_4 23 rfl rfl)
theorem dX0_absent_119 : decode cX0_absent 119 = .ok (.istore 11, 2) := dk_54 11 (dk_at dksX0_absent_5 0 rfl rfl)
theorem dX0_absent_121 : decode cX0_absent 121 = .ok (.iload 10, 2) := dk_21 10 (dk_at dksX0_absent_5 2 rfl rfl)
theorem dX0_absent_123 : decode cX0_absent 123 = .ok (.bipush (-9), 2) := dk_16 247 (dk_at dksX0_absent_5 4 rfl rfl)
theorem dX0_absent_125 : decode cX0_absent 125 = .ok (.if_icmp .ne 7, 3) := dk_160 0 7 (dk_at dksX0_absent_5 6 rfl rfl)
theorem dX0_absent_128 : decode cX0_absent 128 = .ok (.lconst 1, 1) := dk_10 (dk_at dksX0_absent_5 9 rfl rfl)
theorem dX0_absent_129 : decode cX0_absent 129 = .ok (.goto 8, 3) := dk_167 0 8 (dk_at dksX0_absent_5 10 rfl rfl)
theorem dX0_absent_132 : decode cX0_absent 132 = .ok (.aload 6, 2) := dk_25 6 (dk_at dksX0_absent_5 13 rfl rfl)
theorem dX0_absent_134 : decode cX0_absent 134 = .ok (.iload 10, 2) := dk_21 10 (dk_at dksX0_absent_5 15 rfl rfl)
theorem dX0_absent_136 : decode cX0_absent 136 = .ok (.laload, 1) := dk_47 (dk_at dksX0_absent_5 17 rfl rfl)
theorem dX0_absent_137 : decode cX0_absent 137 = .ok (.lstore 12, 2) := dk_55 12 (dk_at dksX0_absent_5 18 rfl rfl)
theorem dX0_absent_139 : decode cX0_absent 139 = .ok (.iload 9, 2) := dk_21 9 (dk_at dksX0_absent_5 20 rfl rfl)
theorem dX0_absent_141 : decode cX0_absent 141 = .ok (.ifCond .eq 13, 3) := dk_153 0 13 (dk_at dksX0_absent_6 0 rfl rfl)
theorem dX0_absent_144 : decode cX0_absent 144 = .ok (.iload 11, 2) := dk_21 11 (dk_at dksX0_absent_6 3 rfl rfl)
theorem dX0_absent_146 : decode cX0_absent 146 = .ok (.aload 5, 2) := dk_25 5 (dk_at dksX0_absent_6 5 rfl rfl)
theorem dX0_absent_148 : decode cX0_absent 148 = .ok (.iload 8, 2) := dk_21 8 (dk_at dksX0_absent_6 7 rfl rfl)
theorem dX0_absent_150 : decode cX0_absent 150 = .ok (.iaload, 1) := dk_46 (dk_at dksX0_absent_6 9 rfl rfl)
theorem dX0_absent_151 : decode cX0_absent 151 = .ok (.if_icmp .ge 27, 3) := dk_162 0 27 (dk_at dksX0_absent_6 10 rfl rfl)
theorem dX0_absent_154 : decode cX0_absent 154 = .ok (.aload 5, 2) := dk_25 5 (dk_at dksX0_absent_6 13 rfl rfl)
theorem dX0_absent_156 : decode cX0_absent 156 = .ok (.iload 8, 2) := dk_21 8 (dk_at dksX0_absent_6 15 rfl rfl)
theorem dX0_absent_158 : decode cX0_absent 158 = .ok (.iload 11, 2) := dk_21 11 (dk_at dksX0_absent_6 17 rfl rfl)
theorem dX0_absent_160 : decode cX0_absent 160 = .ok (.iastore, 1) := dk_79 (dk_at dksX0_absent_6 19 rfl rfl)
theorem dX0_absent_161 : decode cX0_absent 161 = .ok (.aload 6, 2) := dk_25 6 (dk_at dksX0_absent_6 20 rfl rfl)
theorem dX0_absent_163 : decode cX0_absent 163 = .ok (.iload 8, 2) := dk_21 8 (dk_at dksX0_absent_6 22 rfl rfl)
theorem dX0_absent_165 : decode cX0_absent 165 = .ok (.lload 12, 2) := dk_22 12 (dk_at dksX0_absent_7 0 rfl rfl)
theorem dX0_absent_167 : decode cX0_absent 167 = .ok (.lastore, 1) := dk_80 (dk_at dksX0_absent_7 2 rfl rfl)
theorem dX0_absent_168 : decode cX0_absent 168 = .ok (.aload 7, 2) := dk_25 7 (dk_at dksX0_absent_7 3 rfl rfl)
theorem dX0_absent_170 : decode cX0_absent 170 = .ok (.iload 8, 2) := dk_21 8 (dk_at dksX0_absent_7 5 rfl rfl)
theorem dX0_absent_172 : decode cX0_absent 172 = .ok (.iload 9, 2) := dk_21 9 (dk_at dksX0_absent_7 7 rfl rfl)
theorem dX0_absent_174 : decode cX0_absent 174 = .ok (.iastore, 1) := dk_79 (dk_at dksX0_absent_7 9 rfl rfl)
theorem dX0_absent_175 : decode cX0_absent 175 = .ok (.goto 23, 3) := dk_167 0 23 (dk_at dksX0_absent_7 10 rfl rfl)
theorem dX0_absent_178 : decode cX0_absent 178 = .ok (.iload 11, 2) := dk_21 11 (dk_at dksX0_absent_7 13 rfl rfl)
theorem dX0_absent_180 : decode cX0_absent 180 = .ok (.aload 5, 2) := dk_25 5 (dk_at dksX0_absent_7 15 rfl rfl)
theorem dX0_absent_182 : decode cX0_absent 182 = .ok (.iload 8, 2) := dk_21 8 (dk_at dksX0_absent_7 17 rfl rfl)
theorem dX0_absent_184 : decode cX0_absent 184 = .ok (.iaload, 1) := dk_46 (dk_at dksX0_absent_7 19 rfl rfl)
theorem dX0_absent_185 : decode cX0_absent 185 = .ok (.if_icmp .ne 13, 3) := dk_160 0 13 (dk_at dksX0_absent_7 20 rfl rfl)
theorem dX0_absent_188 : decode cX0_absent 188 = .ok (.aload 6, 2) := dk_25 6 (dk_at dksX0_absent_8 0 rfl rfl)
theorem dX0_absent_190 : decode cX0_absent 190 = .ok (.iload 8, 2) := dk_21 8 (dk_at dksX0_absent_8 2 rfl rfl)
theorem dX0_absent_192 : decode cX0_absent 192 = .ok (.dup2, 1) := dk_92 (dk_at dksX0_absent_8 4 rfl rfl)
theorem dX0_absent_193 : decode cX0_absent 193 = .ok (.laload, 1) := dk_47 (dk_at dksX0_absent_8 5 rfl rfl)
theorem dX0_absent_194 : decode cX0_absent 194 = .ok (.lload 12, 2) := dk_22 12 (dk_at dksX0_absent_8 6 rfl rfl)
theorem dX0_absent_196 : decode cX0_absent 196 = .ok (.ladd, 1) := dk_97 (dk_at dksX0_absent_8 8 rfl rfl)
theorem dX0_absent_197 : decode cX0_absent 197 = .ok (.lastore, 1) := dk_80 (dk_at dksX0_absent_8 9 rfl rfl)
theorem dX0_absent_198 : decode cX0_absent 198 = .ok (.iinc 9 1, 3) := dk_132 9 1 (dk_at dksX0_absent_8 10 rfl rfl)
theorem dX0_absent_201 : decode cX0_absent 201 = .ok (.goto (-124), 3) := dk_167 255 132 (dk_at dksX0_absent_8 13 rfl rfl)
theorem dX0_absent_204 : decode cX0_absent 204 = .ok (.iinc 8 (-1), 3) := dk_132 8 255 (dk_at dksX0_absent_8 16 rfl rfl)
theorem dX0_absent_207 : decode cX0_absent 207 = .ok (.goto (-138), 3) := dk_167 255 118 (dk_at dksX0_absent_8 19 rfl rfl)
theorem dX0_absent_210 : decode cX0_absent 210 = .ok (.aload 5, 2) := dk_25 5 (dk_at dksX0_absent_8 22 rfl rfl)
theorem dX0_absent_212 : decode cX0_absent 212 = .ok (.iconst 0, 1) := dk_3 (dk_at dksX0_absent_9 0 rfl rfl)
theorem dX0_absent_213 : decode cX0_absent 213 = .ok (.iaload, 1) := dk_46 (dk_at dksX0_absent_9 1 rfl rfl)
theorem dX0_absent_214 : decode cX0_absent 214 = .ok (.newarray .int, 2) := dk_188_10 (dk_at dksX0_absent_9 2 rfl rfl)
theorem dX0_absent_216 : decode cX0_absent 216 = .ok (.astore 8, 2) := dk_58 8 (dk_at dksX0_absent_9 4 rfl rfl)
theorem dX0_absent_218 : decode cX0_absent 218 = .ok (.iconst 0, 1) := dk_3 (dk_at dksX0_absent_9 6 rfl rfl)
theorem dX0_absent_219 : decode cX0_absent 219 = .ok (.istore 9, 2) := dk_54 9 (dk_at dksX0_absent_9 7 rfl rfl)
theorem dX0_absent_221 : decode cX0_absent 221 = .ok (.iconst 0, 1) := dk_3 (dk_at dksX0_absent_9 9 rfl rfl)
theorem dX0_absent_222 : decode cX0_absent 222 = .ok (.istore 10, 2) := dk_54 10 (dk_at dksX0_absent_9 10 rfl rfl)
theorem dX0_absent_224 : decode cX0_absent 224 = .ok (.iload 10, 2) := dk_21 10 (dk_at dksX0_absent_9 12 rfl rfl)
theorem dX0_absent_226 : decode cX0_absent 226 = .ok (.aload 8, 2) := dk_25 8 (dk_at dksX0_absent_9 14 rfl rfl)
theorem dX0_absent_228 : decode cX0_absent 228 = .ok (.arraylength, 1) := dk_190 (dk_at dksX0_absent_9 16 rfl rfl)
theorem dX0_absent_229 : decode cX0_absent 229 = .ok (.if_icmp .ge 37, 3) := dk_162 0 37 (dk_at dksX0_absent_9 17 rfl rfl)
theorem dX0_absent_232 : decode cX0_absent 232 = .ok (.aload 8, 2) := dk_25 8 (dk_at dksX0_absent_9 20 rfl rfl)
theorem dX0_absent_234 : decode cX0_absent 234 = .ok (.iload 10, 2) := dk_21 10 (dk_at dksX0_absent_9 22 rfl rfl)
theorem dX0_absent_236 : decode cX0_absent 236 = .ok (.aload 7, 2) := dk_25 7 (dk_at dksX0_absent_10 0 rfl rfl)
theorem dX0_absent_238 : decode cX0_absent 238 = .ok (.iload 9, 2) := dk_21 9 (dk_at dksX0_absent_10 2 rfl rfl)
theorem dX0_absent_240 : decode cX0_absent 240 = .ok (.iaload, 1) := dk_46 (dk_at dksX0_absent_10 4 rfl rfl)
theorem dX0_absent_241 : decode cX0_absent 241 = .ok (.iastore, 1) := dk_79 (dk_at dksX0_absent_10 5 rfl rfl)
theorem dX0_absent_242 : decode cX0_absent 242 = .ok (.aload_n 0, 1) := dk_42 (dk_at dksX0_absent_10 6 rfl rfl)
theorem dX0_absent_243 : decode cX0_absent 243 = .ok (.getfield 53, 3) := dk_180 0 53 (dk_at dksX0_absent_10 7 rfl rfl)
theorem dX0_absent_246 : decode cX0_absent 246 = .ok (.bipush 6, 2) := dk_16 6 (dk_at dksX0_absent_10 10 rfl rfl)
theorem dX0_absent_248 : decode cX0_absent 248 = .ok (.iload 9, 2) := dk_21 9 (dk_at dksX0_absent_10 12 rfl rfl)
theorem dX0_absent_250 : decode cX0_absent 250 = .ok (.imul, 1) := dk_104 (dk_at dksX0_absent_10 14 rfl rfl)
theorem dX0_absent_251 : decode cX0_absent 251 = .ok (.aload 7, 2) := dk_25 7 (dk_at dksX0_absent_10 15 rfl rfl)
theorem dX0_absent_253 : decode cX0_absent 253 = .ok (.iload 9, 2) := dk_21 9 (dk_at dksX0_absent_10 17 rfl rfl)
theorem dX0_absent_255 : decode cX0_absent 255 = .ok (.iaload, 1) := dk_46 (dk_at dksX0_absent_10 19 rfl rfl)
theorem dX0_absent_256 : decode cX0_absent 256 = .ok (.iadd, 1) := dk_96 (dk_at dksX0_absent_10 20 rfl rfl)
theorem dX0_absent_257 : decode cX0_absent 257 = .ok (.iaload, 1) := dk_46 (dk_at dksX0_absent_10 21 rfl rfl)
theorem dX0_absent_258 : decode cX0_absent 258 = .ok (.istore 9, 2) := dk_54 9 (dk_at dksX0_absent_10 22 rfl rfl)
theorem dX0_absent_260 : decode cX0_absent 260 = .ok (.iinc 10 1, 3) := dk_132 10 1 (dk_at dksX0_absent_11 0 rfl rfl)
theorem dX0_absent_263 : decode cX0_absent 263 = .ok (.goto (-39), 3) := dk_167 255 217 (dk_at dksX0_absent_11 3 rfl rfl)
theorem dX0_absent_266 : decode cX0_absent 266 = .ok (.aload 8, 2) := dk_25 8 (dk_at dksX0_absent_11 6 rfl rfl)
theorem dX0_absent_268 : decode cX0_absent 268 = .ok (.arraylength, 1) := dk_190 (dk_at dksX0_absent_11 8 rfl rfl)
theorem dX0_absent_269 : decode cX0_absent 269 = .ok (.bipush 40, 2) := dk_16 40 (dk_at dksX0_absent_11 9 rfl rfl)
theorem dX0_absent_271 : decode cX0_absent 271 = .ok (.if_icmp .le 15, 3) := dk_164 0 15 (dk_at dksX0_absent_11 11 rfl rfl)
theorem dX0_absent_274 : decode cX0_absent 274 = .ok (.aload_n 0, 1) := dk_42 (dk_at dksX0_absent_11 14 rfl rfl)
theorem dX0_absent_275 : decode cX0_absent 275 = .ok (.iload_n 2, 1) := dk_28 (dk_at dksX0_absent_11 15 rfl rfl)
theorem dX0_absent_276 : decode cX0_absent 276 = .ok (.aload 8, 2) := dk_25 8 (dk_at dksX0_absent_11 16 rfl rfl)
theorem dX0_absent_278 : decode cX0_absent 278 = .ok (.bipush 40, 2) := dk_16 40 (dk_at dksX0_absent_11 18 rfl rfl)
theorem dX0_absent_280 : decode cX0_absent 280 = .ok (.invokevirtual 239, 3) := dk_182 0 239 (dk_at dksX0_absent_11 20 rfl rfl)
theorem dX0_absent_283 : decode cX0_absent 283 = .ok (.goto 11, 3) := dk_167 0 11 (dk_at dksX0_absent_12 0 rfl rfl)
theorem dX0_absent_286 : decode cX0_absent 286 = .ok (.aload_n 0, 1) := dk_42 (dk_at dksX0_absent_12 3 rfl rfl)
theorem dX0_absent_287 : decode cX0_absent 287 = .ok (.getfield 34, 3) := dk_180 0 34 (dk_at dksX0_absent_12 4 rfl rfl)
theorem dX0_absent_290 : decode cX0_absent 290 = .ok (.iload_n 2, 1) := dk_28 (dk_at dksX0_absent_12 7 rfl rfl)
theorem dX0_absent_291 : decode cX0_absent 291 = .ok (.aload 8, 2) := dk_25 8 (dk_at dksX0_absent_12 8 rfl rfl)
theorem dX0_absent_293 : decode cX0_absent 293 = .ok (.aastore, 1) := dk_83 (dk_at dksX0_absent_12 10 rfl rfl)
theorem dX0_absent_294 : decode cX0_absent 294 = .ok (.aload_n 0, 1) := dk_42 (dk_at dksX0_absent_12 11 rfl rfl)
theorem dX0_absent_295 : decode cX0_absent 295 = .ok (.aload 6, 2) := dk_25 6 (dk_at dksX0_absent_12 12 rfl rfl)
theorem dX0_absent_297 : decode cX0_absent 297 = .ok (.iconst 0, 1) := dk_3 (dk_at dksX0_absent_12 14 rfl rfl)
theorem dX0_absent_298 : decode cX0_absent 298 = .ok (.laload, 1) := dk_47 (dk_at dksX0_absent_12 15 rfl rfl)
theorem dX0_absent_299 : decode cX0_absent 299 = .ok (.aload 8, 2) := dk_25 8 (dk_at dksX0_absent_12 16 rfl rfl)
theorem dX0_absent_301 : decode cX0_absent 301 = .ok (.arraylength, 1) := dk_190 (dk_at dksX0_absent_12 18 rfl rfl)
theorem dX0_absent_302 : decode cX0_absent 302 = .ok (.invokevirtual 231, 3) := dk_182 0 231 (dk_at dksX0_absent_12 19 rfl rfl)
theorem dX0_absent_305 : decode cX0_absent 305 = .ok (.ireturn, 1) := dk_172 (dk_at dksX0_absent_12 22 rfl rfl)
abbrev cX0_added : ByteArray := prog_1_method_58_code
def yX0_added : MethodName := ⟨RX0, "added", "(II)I"⟩
def dkwX0_added_4 : List UInt8 := [42, 180, 1, 3, 100, 4, 100, 42, 180, 0, 30, 104, 96, 172]
abbrev dktX0_added_4 : List UInt8 := dkwX0_added_4 ++ []
def dkwX0_added_3 : List UInt8 := [21, 5, 51, 120, 128, 54, 4, 132, 5, 1, 167, 255, 227, 42, 180, 0, 30, 21, 4, 184, 1, 12, 100, 28]
abbrev dktX0_added_3 : List UInt8 := dkwX0_added_3 ++ dktX0_added_4
def dkwX0_added_2 : List UInt8 := [180, 1, 6, 54, 5, 21, 5, 42, 27, 182, 0, 188, 190, 162, 0, 24, 21, 4, 4, 42, 27, 182, 0, 188]
abbrev dktX0_added_2 : List UInt8 := dkwX0_added_2 ++ dktX0_added_3
def dkwX0_added_1 : List UInt8 := [42, 42, 27, 182, 0, 188, 182, 1, 9, 28, 42, 180, 1, 3, 163, 0, 5, 3, 172, 3, 54, 4, 42]
abbrev dktX0_added_1 : List UInt8 := dkwX0_added_1 ++ dktX0_added_2
def dkwX0_added_0 : List UInt8 := [28, 3, 16, 40, 184, 0, 93, 154, 0, 5, 2, 172, 42, 27, 182, 0, 195, 62, 29, 156, 0, 5, 29, 172]
abbrev dktX0_added_0 : List UInt8 := dkwX0_added_0 ++ dktX0_added_1
theorem dksX0_added_0 : cX0_added.data.toList.drop 0 = dktX0_added_0 := by decide +kernel
theorem dksX0_added_1 : cX0_added.data.toList.drop 24 = dktX0_added_1 := dk_seg dksX0_added_0 24 rfl rfl
theorem dksX0_added_2 : cX0_added.data.toList.drop 47 = dktX0_added_2 := dk_seg dksX0_added_1 23 rfl rfl
theorem dksX0_added_3 : cX0_added.data.toList.drop 71 = dktX0_added_3 := dk_seg dksX0_added_2 24 rfl rfl
theorem dksX0_added_4 : cX0_added.data.toList.drop 95 = dktX0_added_4 := dk_seg dksX0_added_3 24 rfl rfl
theorem dX0_added_0 : decode cX0_added 0 = .ok (.iload_n 2, 1) := dk_28 (dk_at dksX0_added_0 0 rfl rfl)
theorem dX0_added_1 : decode cX0_added 1 = .ok (.iconst 0, 1) := dk_3 (dk_at dksX0_added_0 1 rfl rfl)
theorem dX0_added_2 : decode cX0_added 2 = .ok (.bipush 40, 2) := dk_16 40 (dk_at dksX0_added_0 2 rfl rfl)
theorem dX0_added_4 : decode cX0_added 4 = .ok (.invokestatic 93, 3) := dk_184 0 93 (dk_at dksX0_added_0 4 rfl rfl)
theorem dX0_added_7 : decode cX0_added 7 = .ok (.ifCond .ne 5, 3) := dk_154 0 5 (dk_at dksX0_added_0 7 rfl rfl)
theorem dX0_added_10 : decode cX0_added 10 = .ok (.iconst (-1), 1) := dk_2 (dk_at dksX0_added_0 10 rfl rfl)
theorem dX0_added_11 : decode cX0_added 11 = .ok (.ireturn, 1) := dk_172 (dk_at dksX0_added_0 11 rfl rfl)
theorem dX0_added_12 : decode cX0_added 12 = .ok (.aload_n 0, 1) := dk_42 (dk_at dksX0_added_0 12 rfl rfl)
theorem dX0_added_13 : decode cX0_added 13 = .ok (.iload_n 1, 1) := dk_27 (dk_at dksX0_added_0 13 rfl rfl)
theorem dX0_added_14 : decode cX0_added 14 = .ok (.invokevirtual 195, 3) := dk_182 0 195 (dk_at dksX0_added_0 14 rfl rfl)
theorem dX0_added_17 : decode cX0_added 17 = .ok (.istore_n 3, 1) := dk_62 (dk_at dksX0_added_0 17 rfl rfl)
theorem dX0_added_18 : decode cX0_added 18 = .ok (.iload_n 3, 1) := dk_29 (dk_at dksX0_added_0 18 rfl rfl)
theorem dX0_added_19 : decode cX0_added 19 = .ok (.ifCond .ge 5, 3) := dk_156 0 5 (dk_at dksX0_added_0 19 rfl rfl)
theorem dX0_added_22 : decode cX0_added 22 = .ok (.iload_n 3, 1) := dk_29 (dk_at dksX0_added_0 22 rfl rfl)
theorem dX0_added_23 : decode cX0_added 23 = .ok (.ireturn, 1) := dk_172 (dk_at dksX0_added_0 23 rfl rfl)
theorem dX0_added_24 : decode cX0_added 24 = .ok (.aload_n 0, 1) := dk_42 (dk_at dksX0_added_1 0 rfl rfl)
theorem dX0_added_25 : decode cX0_added 25 = .ok (.aload_n 0, 1) := dk_42 (dk_at dksX0_added_1 1 rfl rfl)
theorem dX0_added_26 : decode cX0_added 26 = .ok (.iload_n 1, 1) := dk_27 (dk_at dksX0_added_1 2 rfl rfl)
theorem dX0_added_27 : decode cX0_added 27 = .ok (.invokevirtual 188, 3) := dk_182 0 188 (dk_at dksX0_added_1 3 rfl rfl)
theorem dX0_added_30 : decode cX0_added 30 = .ok (.invokevirtual 265, 3) := dk_182 1 9 (dk_at dksX0_added_1 6 rfl rfl)
theorem dX0_added_33 : decode cX0_added 33 = .ok (.iload_n 2, 1) := dk_28 (dk_at dksX0_added_1 9 rfl rfl)
theorem dX0_added_34 : decode cX0_added 34 = .ok (.aload_n 0, 1) := dk_42 (dk_at dksX0_added_1 10 rfl rfl)
theorem dX0_added_35 : decode cX0_added 35 = .ok (.getfield 259, 3) := dk_180 1 3 (dk_at dksX0_added_1 11 rfl rfl)
theorem dX0_added_38 : decode cX0_added 38 = .ok (.if_icmp .gt 5, 3) := dk_163 0 5 (dk_at dksX0_added_1 14 rfl rfl)
theorem dX0_added_41 : decode cX0_added 41 = .ok (.iconst 0, 1) := dk_3 (dk_at dksX0_added_1 17 rfl rfl)
theorem dX0_added_42 : decode cX0_added 42 = .ok (.ireturn, 1) := dk_172 (dk_at dksX0_added_1 18 rfl rfl)
theorem dX0_added_43 : decode cX0_added 43 = .ok (.iconst 0, 1) := dk_3 (dk_at dksX0_added_1 19 rfl rfl)
theorem dX0_added_44 : decode cX0_added 44 = .ok (.istore 4, 2) := dk_54 4 (dk_at dksX0_added_1 20 rfl rfl)
theorem dX0_added_46 : decode cX0_added 46 = .ok (.aload_n 0, 1) := dk_42 (dk_at dksX0_added_1 22 rfl rfl)
theorem dX0_added_47 : decode cX0_added 47 = .ok (.getfield 262, 3) := dk_180 1 6 (dk_at dksX0_added_2 0 rfl rfl)
theorem dX0_added_50 : decode cX0_added 50 = .ok (.istore 5, 2) := dk_54 5 (dk_at dksX0_added_2 3 rfl rfl)
theorem dX0_added_52 : decode cX0_added 52 = .ok (.iload 5, 2) := dk_21 5 (dk_at dksX0_added_2 5 rfl rfl)
theorem dX0_added_54 : decode cX0_added 54 = .ok (.aload_n 0, 1) := dk_42 (dk_at dksX0_added_2 7 rfl rfl)
theorem dX0_added_55 : decode cX0_added 55 = .ok (.iload_n 1, 1) := dk_27 (dk_at dksX0_added_2 8 rfl rfl)
theorem dX0_added_56 : decode cX0_added 56 = .ok (.invokevirtual 188, 3) := dk_182 0 188 (dk_at dksX0_added_2 9 rfl rfl)
theorem dX0_added_59 : decode cX0_added 59 = .ok (.arraylength, 1) := dk_190 (dk_at dksX0_added_2 12 rfl rfl)
theorem dX0_added_60 : decode cX0_added 60 = .ok (.if_icmp .ge 24, 3) := dk_162 0 24 (dk_at dksX0_added_2 13 rfl rfl)
theorem dX0_added_63 : decode cX0_added 63 = .ok (.iload 4, 2) := dk_21 4 (dk_at dksX0_added_2 16 rfl rfl)
theorem dX0_added_65 : decode cX0_added 65 = .ok (.iconst 1, 1) := dk_4 (dk_at dksX0_added_2 18 rfl rfl)
theorem dX0_added_66 : decode cX0_added 66 = .ok (.aload_n 0, 1) := dk_42 (dk_at dksX0_added_2 19 rfl rfl)
theorem dX0_added_67 : decode cX0_added 67 = .ok (.iload_n 1, 1) := dk_27 (dk_at dksX0_added_2 20 rfl rfl)
theorem dX0_added_68 : decode cX0_added 68 = .ok (.invokevirtual 188, 3) := dk_182 0 188 (dk_at dksX0_added_2 21 rfl rfl)
theorem dX0_added_71 : decode cX0_added 71 = .ok (.iload 5, 2) := dk_21 5 (dk_at dksX0_added_3 0 rfl rfl)
theorem dX0_added_73 : decode cX0_added 73 = .ok (.baload, 1) := dk_51 (dk_at dksX0_added_3 2 rfl rfl)
theorem dX0_added_74 : decode cX0_added 74 = .ok (.ishl, 1) := dk_120 (dk_at dksX0_added_3 3 rfl rfl)
theorem dX0_added_75 : decode cX0_added 75 = .ok (.ior, 1) := dk_128 (dk_at dksX0_added_3 4 rfl rfl)
theorem dX0_added_76 : decode cX0_added 76 = .ok (.istore 4, 2) := dk_54 4 (dk_at dksX0_added_3 5 rfl rfl)
theorem dX0_added_78 : decode cX0_added 78 = .ok (.iinc 5 1, 3) := dk_132 5 1 (dk_at dksX0_added_3 7 rfl rfl)
theorem dX0_added_81 : decode cX0_added 81 = .ok (.goto (-29), 3) := dk_167 255 227 (dk_at dksX0_added_3 10 rfl rfl)
theorem dX0_added_84 : decode cX0_added 84 = .ok (.aload_n 0, 1) := dk_42 (dk_at dksX0_added_3 13 rfl rfl)
theorem dX0_added_85 : decode cX0_added 85 = .ok (.getfield 30, 3) := dk_180 0 30 (dk_at dksX0_added_3 14 rfl rfl)
theorem dX0_added_88 : decode cX0_added 88 = .ok (.iload 4, 2) := dk_21 4 (dk_at dksX0_added_3 17 rfl rfl)
theorem dX0_added_90 : decode cX0_added 90 = .ok (.invokestatic 268, 3) := dk_184 1 12 (dk_at dksX0_added_3 19 rfl rfl)
theorem dX0_added_93 : decode cX0_added 93 = .ok (.isub, 1) := dk_100 (dk_at dksX0_added_3 22 rfl rfl)
theorem dX0_added_94 : decode cX0_added 94 = .ok (.iload_n 2, 1) := dk_28 (dk_at dksX0_added_3 23 rfl rfl)
theorem dX0_added_95 : decode cX0_added 95 = .ok (.aload_n 0, 1) := dk_42 (dk_at dksX0_added_4 0 rfl rfl)
theorem dX0_added_96 : decode cX0_added 96 = .ok (.getfield 259, 3) := dk_180 1 3 (dk_at dksX0_added_4 1 rfl rfl)
theorem dX0_added_99 : decode cX0_added 99 = .ok (.isub, 1) := dk_100 (dk_at dksX0_added_4 4 rfl rfl)
theorem dX0_added_100 : decode cX0_added 100 = .ok (.iconst 1, 1) := dk_4 (dk_at dksX0_added_4 5 rfl rfl)
theorem dX0_added_101 : decode cX0_added 101 = .ok (.isub, 1) := dk_100 (dk_at dksX0_added_4 6 rfl rfl)
theorem dX0_added_102 : decode cX0_added 102 = .ok (.aload_n 0, 1) := dk_42 (dk_at dksX0_added_4 7 rfl rfl)
theorem dX0_added_103 : decode cX0_added 103 = .ok (.getfield 30, 3) := dk_180 0 30 (dk_at dksX0_added_4 8 rfl rfl)
theorem dX0_added_106 : decode cX0_added 106 = .ok (.imul, 1) := dk_104 (dk_at dksX0_added_4 11 rfl rfl)
theorem dX0_added_107 : decode cX0_added 107 = .ok (.iadd, 1) := dk_96 (dk_at dksX0_added_4 12 rfl rfl)
theorem dX0_added_108 : decode cX0_added 108 = .ok (.ireturn, 1) := dk_172 (dk_at dksX0_added_4 13 rfl rfl)
abbrev cX0_alike : ByteArray := prog_1_method_61_code
def yX0_alike : MethodName := ⟨RX0, "alike", "(III)I"⟩
def dkwX0_alike_2 : List UInt8 := [164, 0, 7, 4, 167, 0, 4, 3, 172]
abbrev dktX0_alike_2 : List UInt8 := dkwX0_alike_2 ++ []
def dkwX0_alike_1 : List UInt8 := [156, 0, 8, 21, 4, 167, 0, 26, 42, 42, 27, 182, 0, 188, 42, 28, 182, 0, 188, 182, 0, 203, 29]
abbrev dktX0_alike_1 : List UInt8 := dkwX0_alike_1 ++ dktX0_alike_2
def dkwX0_alike_0 : List UInt8 := [29, 3, 16, 40, 184, 0, 93, 154, 0, 5, 2, 172, 42, 27, 28, 182, 0, 185, 54, 4, 21, 4]
abbrev dktX0_alike_0 : List UInt8 := dkwX0_alike_0 ++ dktX0_alike_1
theorem dksX0_alike_0 : cX0_alike.data.toList.drop 0 = dktX0_alike_0 := by decide +kernel
theorem dksX0_alike_1 : cX0_alike.data.toList.drop 22 = dktX0_alike_1 := dk_seg dksX0_alike_0 22 rfl rfl
theorem dksX0_alike_2 : cX0_alike.data.toList.drop 45 = dktX0_alike_2 := dk_seg dksX0_alike_1 23 rfl rfl
theorem dX0_alike_0 : decode cX0_alike 0 = .ok (.iload_n 3, 1) := dk_29 (dk_at dksX0_alike_0 0 rfl rfl)
theorem dX0_alike_1 : decode cX0_alike 1 = .ok (.iconst 0, 1) := dk_3 (dk_at dksX0_alike_0 1 rfl rfl)
theorem dX0_alike_2 : decode cX0_alike 2 = .ok (.bipush 40, 2) := dk_16 40 (dk_at dksX0_alike_0 2 rfl rfl)
theorem dX0_alike_4 : decode cX0_alike 4 = .ok (.invokestatic 93, 3) := dk_184 0 93 (dk_at dksX0_alike_0 4 rfl rfl)
theorem dX0_alike_7 : decode cX0_alike 7 = .ok (.ifCond .ne 5, 3) := dk_154 0 5 (dk_at dksX0_alike_0 7 rfl rfl)
theorem dX0_alike_10 : decode cX0_alike 10 = .ok (.iconst (-1), 1) := dk_2 (dk_at dksX0_alike_0 10 rfl rfl)
theorem dX0_alike_11 : decode cX0_alike 11 = .ok (.ireturn, 1) := dk_172 (dk_at dksX0_alike_0 11 rfl rfl)
theorem dX0_alike_12 : decode cX0_alike 12 = .ok (.aload_n 0, 1) := dk_42 (dk_at dksX0_alike_0 12 rfl rfl)
theorem dX0_alike_13 : decode cX0_alike 13 = .ok (.iload_n 1, 1) := dk_27 (dk_at dksX0_alike_0 13 rfl rfl)
theorem dX0_alike_14 : decode cX0_alike 14 = .ok (.iload_n 2, 1) := dk_28 (dk_at dksX0_alike_0 14 rfl rfl)
theorem dX0_alike_15 : decode cX0_alike 15 = .ok (.invokevirtual 185, 3) := dk_182 0 185 (dk_at dksX0_alike_0 15 rfl rfl)
theorem dX0_alike_18 : decode cX0_alike 18 = .ok (.istore 4, 2) := dk_54 4 (dk_at dksX0_alike_0 18 rfl rfl)
theorem dX0_alike_20 : decode cX0_alike 20 = .ok (.iload 4, 2) := dk_21 4 (dk_at dksX0_alike_0 20 rfl rfl)
theorem dX0_alike_22 : decode cX0_alike 22 = .ok (.ifCond .ge 8, 3) := dk_156 0 8 (dk_at dksX0_alike_1 0 rfl rfl)
theorem dX0_alike_25 : decode cX0_alike 25 = .ok (.iload 4, 2) := dk_21 4 (dk_at dksX0_alike_1 3 rfl rfl)
theorem dX0_alike_27 : decode cX0_alike 27 = .ok (.goto 26, 3) := dk_167 0 26 (dk_at dksX0_alike_1 5 rfl rfl)
theorem dX0_alike_30 : decode cX0_alike 30 = .ok (.aload_n 0, 1) := dk_42 (dk_at dksX0_alike_1 8 rfl rfl)
theorem dX0_alike_31 : decode cX0_alike 31 = .ok (.aload_n 0, 1) := dk_42 (dk_at dksX0_alike_1 9 rfl rfl)
theorem dX0_alike_32 : decode cX0_alike 32 = .ok (.iload_n 1, 1) := dk_27 (dk_at dksX0_alike_1 10 rfl rfl)
theorem dX0_alike_33 : decode cX0_alike 33 = .ok (.invokevirtual 188, 3) := dk_182 0 188 (dk_at dksX0_alike_1 11 rfl rfl)
theorem dX0_alike_36 : decode cX0_alike 36 = .ok (.aload_n 0, 1) := dk_42 (dk_at dksX0_alike_1 14 rfl rfl)
theorem dX0_alike_37 : decode cX0_alike 37 = .ok (.iload_n 2, 1) := dk_28 (dk_at dksX0_alike_1 15 rfl rfl)
theorem dX0_alike_38 : decode cX0_alike 38 = .ok (.invokevirtual 188, 3) := dk_182 0 188 (dk_at dksX0_alike_1 16 rfl rfl)
theorem dX0_alike_41 : decode cX0_alike 41 = .ok (.invokevirtual 203, 3) := dk_182 0 203 (dk_at dksX0_alike_1 19 rfl rfl)
theorem dX0_alike_44 : decode cX0_alike 44 = .ok (.iload_n 3, 1) := dk_29 (dk_at dksX0_alike_1 22 rfl rfl)
theorem dX0_alike_45 : decode cX0_alike 45 = .ok (.if_icmp .le 7, 3) := dk_164 0 7 (dk_at dksX0_alike_2 0 rfl rfl)
theorem dX0_alike_48 : decode cX0_alike 48 = .ok (.iconst 1, 1) := dk_4 (dk_at dksX0_alike_2 3 rfl rfl)
theorem dX0_alike_49 : decode cX0_alike 49 = .ok (.goto 4, 3) := dk_167 0 4 (dk_at dksX0_alike_2 4 rfl rfl)
theorem dX0_alike_52 : decode cX0_alike 52 = .ok (.iconst 0, 1) := dk_3 (dk_at dksX0_alike_2 7 rfl rfl)
theorem dX0_alike_53 : decode cX0_alike 53 = .ok (.ireturn, 1) := dk_172 (dk_at dksX0_alike_2 8 rfl rfl)
abbrev cX0_parting : ByteArray := prog_1_method_62_code
def yX0_parting : MethodName := ⟨RX0, "parting", "(III)I"⟩
def dkwX0_parting_5 : List UInt8 := [180, 0, 34, 29, 25, 6, 83, 21, 5, 172]
abbrev dktX0_parting_5 : List UInt8 := dkwX0_parting_5 ++ []
def dkwX0_parting_4 : List UInt8 := [180, 0, 75, 21, 8, 46, 79, 132, 7, 255, 42, 180, 0, 72, 21, 8, 46, 54, 8, 167, 255, 227, 42]
abbrev dktX0_parting_4 : List UInt8 := dkwX0_parting_4 ++ dktX0_parting_5
def dkwX0_parting_3 : List UInt8 := [21, 5, 5, 100, 54, 7, 42, 180, 1, 16, 54, 8, 21, 8, 153, 0, 30, 25, 6, 21, 7, 42]
abbrev dktX0_parting_3 : List UInt8 := dkwX0_parting_3 ++ dktX0_parting_4
def dkwX0_parting_2 : List UInt8 := [160, 0, 6, 16, 247, 172, 21, 5, 188, 10, 58, 6, 25, 6, 21, 5, 4, 100, 42, 180, 1, 19, 79]
abbrev dktX0_parting_2 : List UInt8 := dkwX0_parting_2 ++ dktX0_parting_3
def dkwX0_parting_1 : List UInt8 := [172, 42, 42, 27, 182, 0, 188, 42, 28, 182, 0, 188, 182, 0, 203, 54, 5, 21, 5, 17, 3, 232]
abbrev dktX0_parting_1 : List UInt8 := dkwX0_parting_1 ++ dktX0_parting_2
def dkwX0_parting_0 : List UInt8 := [29, 184, 0, 97, 154, 0, 5, 2, 172, 42, 27, 28, 182, 0, 185, 54, 4, 21, 4, 156, 0, 6, 21, 4]
abbrev dktX0_parting_0 : List UInt8 := dkwX0_parting_0 ++ dktX0_parting_1
theorem dksX0_parting_0 : cX0_parting.data.toList.drop 0 = dktX0_parting_0 := by decide +kernel
theorem dksX0_parting_1 : cX0_parting.data.toList.drop 24 = dktX0_parting_1 := dk_seg dksX0_parting_0 24 rfl rfl
theorem dksX0_parting_2 : cX0_parting.data.toList.drop 46 = dktX0_parting_2 := dk_seg dksX0_parting_1 22 rfl rfl
theorem dksX0_parting_3 : cX0_parting.data.toList.drop 69 = dktX0_parting_3 := dk_seg dksX0_parting_2 23 rfl rfl
theorem dksX0_parting_4 : cX0_parting.data.toList.drop 91 = dktX0_parting_4 := dk_seg dksX0_parting_3 22 rfl rfl
theorem dksX0_parting_5 : cX0_parting.data.toList.drop 114 = dktX0_parting_5 := dk_seg dksX0_parting_4 23 rfl rfl
theorem dX0_parting_0 : decode cX0_parting 0 = .ok (.iload_n 3, 1) := dk_29 (dk_at dksX0_parting_0 0 rfl rfl)
theorem dX0_parting_1 : decode cX0_parting 1 = .ok (.invokestatic 97, 3) := dk_184 0 97 (dk_at dksX0_parting_0 1 rfl rfl)
theorem dX0_parting_4 : decode cX0_parting 4 = .ok (.ifCond .ne 5, 3) := dk_154 0 5 (dk_at dksX0_parting_0 4 rfl rfl)
theorem dX0_parting_7 : decode cX0_parting 7 = .ok (.iconst (-1), 1) := dk_2 (dk_at dksX0_parting_0 7 rfl rfl)
theorem dX0_parting_8 : decode cX0_parting 8 = .ok (.ireturn, 1) := dk_172 (dk_at dksX0_parting_0 8 rfl rfl)
theorem dX0_parting_9 : decode cX0_parting 9 = .ok (.aload_n 0, 1) := dk_42 (dk_at dksX0_parting_0 9 rfl rfl)
theorem dX0_parting_10 : decode cX0_parting 10 = .ok (.iload_n 1, 1) := dk_27 (dk_at dksX0_parting_0 10 rfl rfl)
theorem dX0_parting_11 : decode cX0_parting 11 = .ok (.iload_n 2, 1) := dk_28 (dk_at dksX0_parting_0 11 rfl rfl)
theorem dX0_parting_12 : decode cX0_parting 12 = .ok (.invokevirtual 185, 3) := dk_182 0 185 (dk_at dksX0_parting_0 12 rfl rfl)
theorem dX0_parting_15 : decode cX0_parting 15 = .ok (.istore 4, 2) := dk_54 4 (dk_at dksX0_parting_0 15 rfl rfl)
theorem dX0_parting_17 : decode cX0_parting 17 = .ok (.iload 4, 2) := dk_21 4 (dk_at dksX0_parting_0 17 rfl rfl)
theorem dX0_parting_19 : decode cX0_parting 19 = .ok (.ifCond .ge 6, 3) := dk_156 0 6 (dk_at dksX0_parting_0 19 rfl rfl)
theorem dX0_parting_22 : decode cX0_parting 22 = .ok (.iload 4, 2) := dk_21 4 (dk_at dksX0_parting_0 22 rfl rfl)
theorem dX0_parting_24 : decode cX0_parting 24 = .ok (.ireturn, 1) := dk_172 (dk_at dksX0_parting_1 0 rfl rfl)
theorem dX0_parting_25 : decode cX0_parting 25 = .ok (.aload_n 0, 1) := dk_42 (dk_at dksX0_parting_1 1 rfl rfl)
theorem dX0_parting_26 : decode cX0_parting 26 = .ok (.aload_n 0, 1) := dk_42 (dk_at dksX0_parting_1 2 rfl rfl)
theorem dX0_parting_27 : decode cX0_parting 27 = .ok (.iload_n 1, 1) := dk_27 (dk_at dksX0_parting_1 3 rfl rfl)
theorem dX0_parting_28 : decode cX0_parting 28 = .ok (.invokevirtual 188, 3) := dk_182 0 188 (dk_at dksX0_parting_1 4 rfl rfl)
theorem dX0_parting_31 : decode cX0_parting 31 = .ok (.aload_n 0, 1) := dk_42 (dk_at dksX0_parting_1 7 rfl rfl)
theorem dX0_parting_32 : decode cX0_parting 32 = .ok (.iload_n 2, 1) := dk_28 (dk_at dksX0_parting_1 8 rfl rfl)
theorem dX0_parting_33 : decode cX0_parting 33 = .ok (.invokevirtual 188, 3) := dk_182 0 188 (dk_at dksX0_parting_1 9 rfl rfl)
theorem dX0_parting_36 : decode cX0_parting 36 = .ok (.invokevirtual 203, 3) := dk_182 0 203 (dk_at dksX0_parting_1 12 rfl rfl)
theorem dX0_parting_39 : decode cX0_parting 39 = .ok (.istore 5, 2) := dk_54 5 (dk_at dksX0_parting_1 15 rfl rfl)
theorem dX0_parting_41 : decode cX0_parting 41 = .ok (.iload 5, 2) := dk_21 5 (dk_at dksX0_parting_1 17 rfl rfl)
theorem dX0_parting_43 : decode cX0_parting 43 = .ok (.sipush 1000, 3) := dk_17 3 232 (dk_at dksX0_parting_1 19 rfl rfl)
theorem dX0_parting_46 : decode cX0_parting 46 = .ok (.if_icmp .ne 6, 3) := dk_160 0 6 (dk_at dksX0_parting_2 0 rfl rfl)
theorem dX0_parting_49 : decode cX0_parting 49 = .ok (.bipush (-9), 2) := dk_16 247 (dk_at dksX0_parting_2 3 rfl rfl)
theorem dX0_parting_51 : decode cX0_parting 51 = .ok (.ireturn, 1) := dk_172 (dk_at dksX0_parting_2 5 rfl rfl)
theorem dX0_parting_52 : decode cX0_parting 52 = .ok (.iload 5, 2) := dk_21 5 (dk_at dksX0_parting_2 6 rfl rfl)
theorem dX0_parting_54 : decode cX0_parting 54 = .ok (.newarray .int, 2) := dk_188_10 (dk_at dksX0_parting_2 8 rfl rfl)
theorem dX0_parting_56 : decode cX0_parting 56 = .ok (.astore 6, 2) := dk_58 6 (dk_at dksX0_parting_2 10 rfl rfl)
theorem dX0_parting_58 : decode cX0_parting 58 = .ok (.aload 6, 2) := dk_25 6 (dk_at dksX0_parting_2 12 rfl rfl)
theorem dX0_parting_60 : decode cX0_parting 60 = .ok (.iload 5, 2) := dk_21 5 (dk_at dksX0_parting_2 14 rfl rfl)
theorem dX0_parting_62 : decode cX0_parting 62 = .ok (.iconst 1, 1) := dk_4 (dk_at dksX0_parting_2 16 rfl rfl)
theorem dX0_parting_63 : decode cX0_parting 63 = .ok (.isub, 1) := dk_100 (dk_at dksX0_parting_2 17 rfl rfl)
theorem dX0_parting_64 : decode cX0_parting 64 = .ok (.aload_n 0, 1) := dk_42 (dk_at dksX0_parting_2 18 rfl rfl)
theorem dX0_parting_65 : decode cX0_parting 65 = .ok (.getfield 275, 3) := dk_180 1 19 (dk_at dksX0_parting_2 19 rfl rfl)
theorem dX0_parting_68 : decode cX0_parting 68 = .ok (.iastore, 1) := dk_79 (dk_at dksX0_parting_2 22 rfl rfl)
theorem dX0_parting_69 : decode cX0_parting 69 = .ok (.iload 5, 2) := dk_21 5 (dk_at dksX0_parting_3 0 rfl rfl)
theorem dX0_parting_71 : decode cX0_parting 71 = .ok (.iconst 2, 1) := dk_5 (dk_at dksX0_parting_3 2 rfl rfl)
theorem dX0_parting_72 : decode cX0_parting 72 = .ok (.isub, 1) := dk_100 (dk_at dksX0_parting_3 3 rfl rfl)
theorem dX0_parting_73 : decode cX0_parting 73 = .ok (.istore 7, 2) := dk_54 7 (dk_at dksX0_parting_3 4 rfl rfl)
theorem dX0_parting_75 : decode cX0_parting 75 = .ok (.aload_n 0, 1) := dk_42 (dk_at dksX0_parting_3 6 rfl rfl)
theorem dX0_parting_76 : decode cX0_parting 76 = .ok (.getfield 272, 3) := dk_180 1 16 (dk_at dksX0_parting_3 7 rfl rfl)
theorem dX0_parting_79 : decode cX0_parting 79 = .ok (.istore 8, 2) := dk_54 8 (dk_at dksX0_parting_3 10 rfl rfl)
theorem dX0_parting_81 : decode cX0_parting 81 = .ok (.iload 8, 2) := dk_21 8 (dk_at dksX0_parting_3 12 rfl rfl)
theorem dX0_parting_83 : decode cX0_parting 83 = .ok (.ifCond .eq 30, 3) := dk_153 0 30 (dk_at dksX0_parting_3 14 rfl rfl)
theorem dX0_parting_86 : decode cX0_parting 86 = .ok (.aload 6, 2) := dk_25 6 (dk_at dksX0_parting_3 17 rfl rfl)
theorem dX0_parting_88 : decode cX0_parting 88 = .ok (.iload 7, 2) := dk_21 7 (dk_at dksX0_parting_3 19 rfl rfl)
theorem dX0_parting_90 : decode cX0_parting 90 = .ok (.aload_n 0, 1) := dk_42 (dk_at dksX0_parting_3 21 rfl rfl)
theorem dX0_parting_91 : decode cX0_parting 91 = .ok (.getfield 75, 3) := dk_180 0 75 (dk_at dksX0_parting_4 0 rfl rfl)
theorem dX0_parting_94 : decode cX0_parting 94 = .ok (.iload 8, 2) := dk_21 8 (dk_at dksX0_parting_4 3 rfl rfl)
theorem dX0_parting_96 : decode cX0_parting 96 = .ok (.iaload, 1) := dk_46 (dk_at dksX0_parting_4 5 rfl rfl)
theorem dX0_parting_97 : decode cX0_parting 97 = .ok (.iastore, 1) := dk_79 (dk_at dksX0_parting_4 6 rfl rfl)
theorem dX0_parting_98 : decode cX0_parting 98 = .ok (.iinc 7 (-1), 3) := dk_132 7 255 (dk_at dksX0_parting_4 7 rfl rfl)
theorem dX0_parting_101 : decode cX0_parting 101 = .ok (.aload_n 0, 1) := dk_42 (dk_at dksX0_parting_4 10 rfl rfl)
theorem dX0_parting_102 : decode cX0_parting 102 = .ok (.getfield 72, 3) := dk_180 0 72 (dk_at dksX0_parting_4 11 rfl rfl)
theorem dX0_parting_105 : decode cX0_parting 105 = .ok (.iload 8, 2) := dk_21 8 (dk_at dksX0_parting_4 14 rfl rfl)
theorem dX0_parting_107 : decode cX0_parting 107 = .ok (.iaload, 1) := dk_46 (dk_at dksX0_parting_4 16 rfl rfl)
theorem dX0_parting_108 : decode cX0_parting 108 = .ok (.istore 8, 2) := dk_54 8 (dk_at dksX0_parting_4 17 rfl rfl)
theorem dX0_parting_110 : decode cX0_parting 110 = .ok (.goto (-29), 3) := dk_167 255 227 (dk_at dksX0_parting_4 19 rfl rfl)
theorem dX0_parting_113 : decode cX0_parting 113 = .ok (.aload_n 0, 1) := dk_42 (dk_at dksX0_parting_4 22 rfl rfl)
theorem dX0_parting_114 : decode cX0_parting 114 = .ok (.getfield 34, 3) := dk_180 0 34 (dk_at dksX0_parting_5 0 rfl rfl)
theorem dX0_parting_117 : decode cX0_parting 117 = .ok (.iload_n 3, 1) := dk_29 (dk_at dksX0_parting_5 3 rfl rfl)
theorem dX0_parting_118 : decode cX0_parting 118 = .ok (.aload 6, 2) := dk_25 6 (dk_at dksX0_parting_5 4 rfl rfl)
theorem dX0_parting_120 : decode cX0_parting 120 = .ok (.aastore, 1) := dk_83 (dk_at dksX0_parting_5 6 rfl rfl)
theorem dX0_parting_121 : decode cX0_parting 121 = .ok (.iload 5, 2) := dk_21 5 (dk_at dksX0_parting_5 7 rfl rfl)
theorem dX0_parting_123 : decode cX0_parting 123 = .ok (.ireturn, 1) := dk_172 (dk_at dksX0_parting_5 9 rfl rfl)
abbrev cX0_common : ByteArray := prog_1_method_67_code
def yX0_common : MethodName := ⟨RX0, "common", "(II)I"⟩
def dkwX0_common_8 : List UInt8 := [180, 0, 34, 28, 25, 4, 83, 25, 4, 190, 172]
abbrev dktX0_common_8 : List UInt8 := dkwX0_common_8 ++ []
def dkwX0_common_7 : List UInt8 := [79, 42, 21, 5, 42, 180, 0, 90, 21, 5, 46, 182, 1, 34, 54, 5, 132, 6, 1, 167, 255, 218, 42]
abbrev dktX0_common_7 : List UInt8 := dkwX0_common_7 ++ dktX0_common_8
def dkwX0_common_6 : List UInt8 := [54, 5, 3, 54, 6, 21, 6, 25, 4, 190, 162, 0, 36, 25, 4, 21, 6, 42, 180, 0, 90, 21, 5, 46]
abbrev dktX0_common_6 : List UInt8 := dkwX0_common_6 ++ dktX0_common_7
def dkwX0_common_5 : List UInt8 := [79, 132, 5, 1, 167, 255, 183, 132, 4, 255, 167, 255, 152, 42, 180, 0, 87, 3, 46, 188, 10, 58, 4, 3]
abbrev dktX0_common_5 : List UInt8 := dkwX0_common_5 ++ dktX0_common_6
def dkwX0_common_4 : List UInt8 := [42, 180, 0, 87, 21, 4, 42, 180, 0, 87, 21, 6, 46, 4, 96, 79, 42, 180, 0, 90, 21, 4, 21, 5]
abbrev dktX0_common_4 : List UInt8 := dkwX0_common_4 ++ dktX0_common_5
def dkwX0_common_3 : List UInt8 := [16, 247, 159, 0, 47, 42, 180, 0, 87, 21, 6, 46, 4, 96, 42, 180, 0, 87, 21, 4, 46, 164, 0, 28]
abbrev dktX0_common_3 : List UInt8 := dkwX0_common_3 ++ dktX0_common_4
def dkwX0_common_2 : List UInt8 := [3, 54, 5, 21, 5, 42, 180, 0, 30, 162, 0, 70, 42, 21, 4, 21, 5, 182, 1, 34, 54, 6, 21, 6]
abbrev dktX0_common_2 : List UInt8 := dkwX0_common_2 ++ dktX0_common_3
def dkwX0_common_1 : List UInt8 := [54, 4, 21, 4, 155, 0, 105, 42, 180, 0, 87, 21, 4, 3, 79, 42, 180, 0, 90, 21, 4, 16, 247, 79]
abbrev dktX0_common_1 : List UInt8 := dkwX0_common_1 ++ dktX0_common_2
def dkwX0_common_0 : List UInt8 := [28, 184, 0, 97, 154, 0, 5, 2, 172, 42, 27, 182, 1, 31, 62, 29, 156, 0, 5, 29, 172, 29, 4, 100]
abbrev dktX0_common_0 : List UInt8 := dkwX0_common_0 ++ dktX0_common_1
theorem dksX0_common_0 : cX0_common.data.toList.drop 0 = dktX0_common_0 := by decide +kernel
theorem dksX0_common_1 : cX0_common.data.toList.drop 24 = dktX0_common_1 := dk_seg dksX0_common_0 24 rfl rfl
theorem dksX0_common_2 : cX0_common.data.toList.drop 48 = dktX0_common_2 := dk_seg dksX0_common_1 24 rfl rfl
theorem dksX0_common_3 : cX0_common.data.toList.drop 72 = dktX0_common_3 := dk_seg dksX0_common_2 24 rfl rfl
theorem dksX0_common_4 : cX0_common.data.toList.drop 96 = dktX0_common_4 := dk_seg dksX0_common_3 24 rfl rfl
theorem dksX0_common_5 : cX0_common.data.toList.drop 120 = dktX0_common_5 := dk_seg dksX0_common_4 24 rfl rfl
theorem dksX0_common_6 : cX0_common.data.toList.drop 144 = dktX0_common_6 := dk_seg dksX0_common_5 24 rfl rfl
theorem dksX0_common_7 : cX0_common.data.toList.drop 168 = dktX0_common_7 := dk_seg dksX0_common_6 24 rfl rfl
theorem dksX0_common_8 : cX0_common.data.toList.drop 191 = dktX0_common_8 := dk_seg dksX0_common_7 23 rfl rfl
theorem dX0_common_0 : decode cX0_common 0 = .ok (.iload_n 2, 1) := dk_28 (dk_at dksX0_common_0 0 rfl rfl)
theorem dX0_common_1 : decode cX0_common 1 = .ok (.invokestatic 97, 3) := dk_184 0 97 (dk_at dksX0_common_0 1 rfl rfl)
theorem dX0_common_4 : decode cX0_common 4 = .ok (.ifCond .ne 5, 3) := dk_154 0 5 (dk_at dksX0_common_0 4 rfl rfl)
theorem dX0_common_7 : decode cX0_common 7 = .ok (.iconst (-1), 1) := dk_2 (dk_at dksX0_common_0 7 rfl rfl)
theorem dX0_common_8 : decode cX0_common 8 = .ok (.ireturn, 1) := dk_172 (dk_at dksX0_common_0 8 rfl rfl)
theorem dX0_common_9 : decode cX0_common 9 = .ok (.aload_n 0, 1) := dk_42 (dk_at dksX0_common_0 9 rfl rfl)
theorem dX0_common_10 : decode cX0_common 10 = .ok (.iload_n 1, 1) := dk_27 (dk_at dksX0_common_0 10 rfl rfl)
theorem dX0_common_11 : decode cX0_common 11 = .ok (.invokevirtual 287, 3) := dk_182 1 31 (dk_at dksX0_common_0 11 rfl rfl)
theorem dX0_common_14 : decode cX0_common 14 = .ok (.istore_n 3, 1) := dk_62 (dk_at dksX0_common_0 14 rfl rfl)
theorem dX0_common_15 : decode cX0_common 15 = .ok (.iload_n 3, 1) := dk_29 (dk_at dksX0_common_0 15 rfl rfl)
theorem dX0_common_16 : decode cX0_common 16 = .ok (.ifCond .ge 5, 3) := dk_156 0 5 (dk_at dksX0_common_0 16 rfl rfl)
theorem dX0_common_19 : decode cX0_common 19 = .ok (.iload_n 3, 1) := dk_29 (dk_at dksX0_common_0 19 rfl rfl)
theorem dX0_common_20 : decode cX0_common 20 = .ok (.ireturn, 1) := dk_172 (dk_at dksX0_common_0 20 rfl rfl)
theorem dX0_common_21 : decode cX0_common 21 = .ok (.iload_n 3, 1) := dk_29 (dk_at dksX0_common_0 21 rfl rfl)
theorem dX0_common_22 : decode cX0_common 22 = .ok (.iconst 1, 1) := dk_4 (dk_at dksX0_common_0 22 rfl rfl)
theorem dX0_common_23 : decode cX0_common 23 = .ok (.isub, 1) := dk_100 (dk_at dksX0_common_0 23 rfl rfl)
theorem dX0_common_24 : decode cX0_common 24 = .ok (.istore 4, 2) := dk_54 4 (dk_at dksX0_common_1 0 rfl rfl)
theorem dX0_common_26 : decode cX0_common 26 = .ok (.iload 4, 2) := dk_21 4 (dk_at dksX0_common_1 2 rfl rfl)
theorem dX0_common_28 : decode cX0_common 28 = .ok (.ifCond .lt 105, 3) := dk_155 0 105 (dk_at dksX0_common_1 4 rfl rfl)
theorem dX0_common_31 : decode cX0_common 31 = .ok (.aload_n 0, 1) := dk_42 (dk_at dksX0_common_1 7 rfl rfl)
theorem dX0_common_32 : decode cX0_common 32 = .ok (.getfield 87, 3) := dk_180 0 87 (dk_at dksX0_common_1 8 rfl rfl)
theorem dX0_common_35 : decode cX0_common 35 = .ok (.iload 4, 2) := dk_21 4 (dk_at dksX0_common_1 11 rfl rfl)
theorem dX0_common_37 : decode cX0_common 37 = .ok (.iconst 0, 1) := dk_3 (dk_at dksX0_common_1 13 rfl rfl)
theorem dX0_common_38 : decode cX0_common 38 = .ok (.iastore, 1) := dk_79 (dk_at dksX0_common_1 14 rfl rfl)
theorem dX0_common_39 : decode cX0_common 39 = .ok (.aload_n 0, 1) := dk_42 (dk_at dksX0_common_1 15 rfl rfl)
theorem dX0_common_40 : decode cX0_common 40 = .ok (.getfield 90, 3) := dk_180 0 90 (dk_at dksX0_common_1 16 rfl rfl)
theorem dX0_common_43 : decode cX0_common 43 = .ok (.iload 4, 2) := dk_21 4 (dk_at dksX0_common_1 19 rfl rfl)
theorem dX0_common_45 : decode cX0_common 45 = .ok (.bipush (-9), 2) := dk_16 247 (dk_at dksX0_common_1 21 rfl rfl)
theorem dX0_common_47 : decode cX0_common 47 = .ok (.iastore, 1) := dk_79 (dk_at dksX0_common_1 23 rfl rfl)
theorem dX0_common_48 : decode cX0_common 48 = .ok (.iconst 0, 1) := dk_3 (dk_at dksX0_common_2 0 rfl rfl)
theorem dX0_common_49 : decode cX0_common 49 = .ok (.istore 5, 2) := dk_54 5 (dk_at dksX0_common_2 1 rfl rfl)
theorem dX0_common_51 : decode cX0_common 51 = .ok (.iload 5, 2) := dk_21 5 (dk_at dksX0_common_2 3 rfl rfl)
theorem dX0_common_53 : decode cX0_common 53 = .ok (.aload_n 0, 1) := dk_42 (dk_at dksX0_common_2 5 rfl rfl)
theorem dX0_common_54 : decode cX0_common 54 = .ok (.getfield 30, 3) := dk_180 0 30 (dk_at dksX0_common_2 6 rfl rfl)
theorem dX0_common_57 : decode cX0_common 57 = .ok (.if_icmp .ge 70, 3) := dk_162 0 70 (dk_at dksX0_common_2 9 rfl rfl)
theorem dX0_common_60 : decode cX0_common 60 = .ok (.aload_n 0, 1) := dk_42 (dk_at dksX0_common_2 12 rfl rfl)
theorem dX0_common_61 : decode cX0_common 61 = .ok (.iload 4, 2) := dk_21 4 (dk_at dksX0_common_2 13 rfl rfl)
theorem dX0_common_63 : decode cX0_common 63 = .ok (.iload 5, 2) := dk_21 5 (dk_at dksX0_common_2 15 rfl rfl)
theorem dX0_common_65 : decode cX0_common 65 = .ok (.invokevirtual 290, 3) := dk_182 1 34 (dk_at dksX0_common_2 17 rfl rfl)
theorem dX0_common_68 : decode cX0_common 68 = .ok (.istore 6, 2) := dk_54 6 (dk_at dksX0_common_2 20 rfl rfl)
theorem dX0_common_70 : decode cX0_common 70 = .ok (.iload 6, 2) := dk_21 6 (dk_at dksX0_common_2 22 rfl rfl)
theorem dX0_common_72 : decode cX0_common 72 = .ok (.bipush (-9), 2) := dk_16 247 (dk_at dksX0_common_3 0 rfl rfl)
theorem dX0_common_74 : decode cX0_common 74 = .ok (.if_icmp .eq 47, 3) := dk_159 0 47 (dk_at dksX0_common_3 2 rfl rfl)
theorem dX0_common_77 : decode cX0_common 77 = .ok (.aload_n 0, 1) := dk_42 (dk_at dksX0_common_3 5 rfl rfl)
theorem dX0_common_78 : decode cX0_common 78 = .ok (.getfield 87, 3) := dk_180 0 87 (dk_at dksX0_common_3 6 rfl rfl)
theorem dX0_common_81 : decode cX0_common 81 = .ok (.iload 6, 2) := dk_21 6 (dk_at dksX0_common_3 9 rfl rfl)
theorem dX0_common_83 : decode cX0_common 83 = .ok (.iaload, 1) := dk_46 (dk_at dksX0_common_3 11 rfl rfl)
theorem dX0_common_84 : decode cX0_common 84 = .ok (.iconst 1, 1) := dk_4 (dk_at dksX0_common_3 12 rfl rfl)
theorem dX0_common_85 : decode cX0_common 85 = .ok (.iadd, 1) := dk_96 (dk_at dksX0_common_3 13 rfl rfl)
theorem dX0_common_86 : decode cX0_common 86 = .ok (.aload_n 0, 1) := dk_42 (dk_at dksX0_common_3 14 rfl rfl)
theorem dX0_common_87 : decode cX0_common 87 = .ok (.getfield 87, 3) := dk_180 0 87 (dk_at dksX0_common_3 15 rfl rfl)
theorem dX0_common_90 : decode cX0_common 90 = .ok (.iload 4, 2) := dk_21 4 (dk_at dksX0_common_3 18 rfl rfl)
theorem dX0_common_92 : decode cX0_common 92 = .ok (.iaload, 1) := dk_46 (dk_at dksX0_common_3 20 rfl rfl)
theorem dX0_common_93 : decode cX0_common 93 = .ok (.if_icmp .le 28, 3) := dk_164 0 28 (dk_at dksX0_common_3 21 rfl rfl)
theorem dX0_common_96 : decode cX0_common 96 = .ok (.aload_n 0, 1) := dk_42 (dk_at dksX0_common_4 0 rfl rfl)
theorem dX0_common_97 : decode cX0_common 97 = .ok (.getfield 87, 3) := dk_180 0 87 (dk_at dksX0_common_4 1 rfl rfl)
theorem dX0_common_100 : decode cX0_common 100 = .ok (.iload 4, 2) := dk_21 4 (dk_at dksX0_common_4 4 rfl rfl)
theorem dX0_common_102 : decode cX0_common 102 = .ok (.aload_n 0, 1) := dk_42 (dk_at dksX0_common_4 6 rfl rfl)
theorem dX0_common_103 : decode cX0_common 103 = .ok (.getfield 87, 3) := dk_180 0 87 (dk_at dksX0_common_4 7 rfl rfl)
theorem dX0_common_106 : decode cX0_common 106 = .ok (.iload 6, 2) := dk_21 6 (dk_at dksX0_common_4 10 rfl rfl)
theorem dX0_common_108 : decode cX0_common 108 = .ok (.iaload, 1) := dk_46 (dk_at dksX0_common_4 12 rfl rfl)
theorem dX0_common_109 : decode cX0_common 109 = .ok (.iconst 1, 1) := dk_4 (dk_at dksX0_common_4 13 rfl rfl)
theorem dX0_common_110 : decode cX0_common 110 = .ok (.iadd, 1) := dk_96 (dk_at dksX0_common_4 14 rfl rfl)
theorem dX0_common_111 : decode cX0_common 111 = .ok (.iastore, 1) := dk_79 (dk_at dksX0_common_4 15 rfl rfl)
theorem dX0_common_112 : decode cX0_common 112 = .ok (.aload_n 0, 1) := dk_42 (dk_at dksX0_common_4 16 rfl rfl)
theorem dX0_common_113 : decode cX0_common 113 = .ok (.getfield 90, 3) := dk_180 0 90 (dk_at dksX0_common_4 17 rfl rfl)
theorem dX0_common_116 : decode cX0_common 116 = .ok (.iload 4, 2) := dk_21 4 (dk_at dksX0_common_4 20 rfl rfl)
theorem dX0_common_118 : decode cX0_common 118 = .ok (.iload 5, 2) := dk_21 5 (dk_at dksX0_common_4 22 rfl rfl)
theorem dX0_common_120 : decode cX0_common 120 = .ok (.iastore, 1) := dk_79 (dk_at dksX0_common_5 0 rfl rfl)
theorem dX0_common_121 : decode cX0_common 121 = .ok (.iinc 5 1, 3) := dk_132 5 1 (dk_at dksX0_common_5 1 rfl rfl)
theorem dX0_common_124 : decode cX0_common 124 = .ok (.goto (-73), 3) := dk_167 255 183 (dk_at dksX0_common_5 4 rfl rfl)
theorem dX0_common_127 : decode cX0_common 127 = .ok (.iinc 4 (-1), 3) := dk_132 4 255 (dk_at dksX0_common_5 7 rfl rfl)
theorem dX0_common_130 : decode cX0_common 130 = .ok (.goto (-104), 3) := dk_167 255 152 (dk_at dksX0_common_5 10 rfl rfl)
theorem dX0_common_133 : decode cX0_common 133 = .ok (.aload_n 0, 1) := dk_42 (dk_at dksX0_common_5 13 rfl rfl)
theorem dX0_common_134 : decode cX0_common 134 = .ok (.getfield 87, 3) := dk_180 0 87 (dk_at dksX0_common_5 14 rfl rfl)
theorem dX0_common_137 : decode cX0_common 137 = .ok (.iconst 0, 1) := dk_3 (dk_at dksX0_common_5 17 rfl rfl)
theorem dX0_common_138 : decode cX0_common 138 = .ok (.iaload, 1) := dk_46 (dk_at dksX0_common_5 18 rfl rfl)
theorem dX0_common_139 : decode cX0_common 139 = .ok (.newarray .int, 2) := dk_188_10 (dk_at dksX0_common_5 19 rfl rfl)
theorem dX0_common_141 : decode cX0_common 141 = .ok (.astore 4, 2) := dk_58 4 (dk_at dksX0_common_5 21 rfl rfl)
theorem dX0_common_143 : decode cX0_common 143 = .ok (.iconst 0, 1) := dk_3 (dk_at dksX0_common_5 23 rfl rfl)
theorem dX0_common_144 : decode cX0_common 144 = .ok (.istore 5, 2) := dk_54 5 (dk_at dksX0_common_6 0 rfl rfl)
theorem dX0_common_146 : decode cX0_common 146 = .ok (.iconst 0, 1) := dk_3 (dk_at dksX0_common_6 2 rfl rfl)
theorem dX0_common_147 : decode cX0_common 147 = .ok (.istore 6, 2) := dk_54 6 (dk_at dksX0_common_6 3 rfl rfl)
theorem dX0_common_149 : decode cX0_common 149 = .ok (.iload 6, 2) := dk_21 6 (dk_at dksX0_common_6 5 rfl rfl)
theorem dX0_common_151 : decode cX0_common 151 = .ok (.aload 4, 2) := dk_25 4 (dk_at dksX0_common_6 7 rfl rfl)
theorem dX0_common_153 : decode cX0_common 153 = .ok (.arraylength, 1) := dk_190 (dk_at dksX0_common_6 9 rfl rfl)
theorem dX0_common_154 : decode cX0_common 154 = .ok (.if_icmp .ge 36, 3) := dk_162 0 36 (dk_at dksX0_common_6 10 rfl rfl)
theorem dX0_common_157 : decode cX0_common 157 = .ok (.aload 4, 2) := dk_25 4 (dk_at dksX0_common_6 13 rfl rfl)
theorem dX0_common_159 : decode cX0_common 159 = .ok (.iload 6, 2) := dk_21 6 (dk_at dksX0_common_6 15 rfl rfl)
theorem dX0_common_161 : decode cX0_common 161 = .ok (.aload_n 0, 1) := dk_42 (dk_at dksX0_common_6 17 rfl rfl)
theorem dX0_common_162 : decode cX0_common 162 = .ok (.getfield 90, 3) := dk_180 0 90 (dk_at dksX0_common_6 18 rfl rfl)
theorem dX0_common_165 : decode cX0_common 165 = .ok (.iload 5, 2) := dk_21 5 (dk_at dksX0_common_6 21 rfl rfl)
theorem dX0_common_167 : decode cX0_common 167 = .ok (.iaload, 1) := dk_46 (dk_at dksX0_common_6 23 rfl rfl)
theorem dX0_common_168 : decode cX0_common 168 = .ok (.iastore, 1) := dk_79 (dk_at dksX0_common_7 0 rfl rfl)
theorem dX0_common_169 : decode cX0_common 169 = .ok (.aload_n 0, 1) := dk_42 (dk_at dksX0_common_7 1 rfl rfl)
theorem dX0_common_170 : decode cX0_common 170 = .ok (.iload 5, 2) := dk_21 5 (dk_at dksX0_common_7 2 rfl rfl)
theorem dX0_common_172 : decode cX0_common 172 = .ok (.aload_n 0, 1) := dk_42 (dk_at dksX0_common_7 4 rfl rfl)
theorem dX0_common_173 : decode cX0_common 173 = .ok (.getfield 90, 3) := dk_180 0 90 (dk_at dksX0_common_7 5 rfl rfl)
theorem dX0_common_176 : decode cX0_common 176 = .ok (.iload 5, 2) := dk_21 5 (dk_at dksX0_common_7 8 rfl rfl)
theorem dX0_common_178 : decode cX0_common 178 = .ok (.iaload, 1) := dk_46 (dk_at dksX0_common_7 10 rfl rfl)
theorem dX0_common_179 : decode cX0_common 179 = .ok (.invokevirtual 290, 3) := dk_182 1 34 (dk_at dksX0_common_7 11 rfl rfl)
theorem dX0_common_182 : decode cX0_common 182 = .ok (.istore 5, 2) := dk_54 5 (dk_at dksX0_common_7 14 rfl rfl)
theorem dX0_common_184 : decode cX0_common 184 = .ok (.iinc 6 1, 3) := dk_132 6 1 (dk_at dksX0_common_7 16 rfl rfl)
theorem dX0_common_187 : decode cX0_common 187 = .ok (.goto (-38), 3) := dk_167 255 218 (dk_at dksX0_common_7 19 rfl rfl)
theorem dX0_common_190 : decode cX0_common 190 = .ok (.aload_n 0, 1) := dk_42 (dk_at dksX0_common_7 22 rfl rfl)
theorem dX0_common_191 : decode cX0_common 191 = .ok (.getfield 34, 3) := dk_180 0 34 (dk_at dksX0_common_8 0 rfl rfl)
theorem dX0_common_194 : decode cX0_common 194 = .ok (.iload_n 2, 1) := dk_28 (dk_at dksX0_common_8 3 rfl rfl)
theorem dX0_common_195 : decode cX0_common 195 = .ok (.aload 4, 2) := dk_25 4 (dk_at dksX0_common_8 4 rfl rfl)
theorem dX0_common_197 : decode cX0_common 197 = .ok (.aastore, 1) := dk_83 (dk_at dksX0_common_8 6 rfl rfl)
theorem dX0_common_198 : decode cX0_common 198 = .ok (.aload 4, 2) := dk_25 4 (dk_at dksX0_common_8 7 rfl rfl)
theorem dX0_common_200 : decode cX0_common 200 = .ok (.arraylength, 1) := dk_190 (dk_at dksX0_common_8 9 rfl rfl)
theorem dX0_common_201 : decode cX0_common 201 = .ok (.ireturn, 1) := dk_172 (dk_at dksX0_common_8 10 rfl rfl)
abbrev cX0_askedSome : ByteArray := prog_1_method_63_code
def yX0_askedSome : MethodName := ⟨RX0, "askedSome", "(I)I"⟩
def dkwX0_askedSome_8 : List UInt8 := [164, 0, 8, 16, 250, 167, 0, 4, 29, 172]
abbrev dktX0_askedSome_8 : List UInt8 := dkwX0_askedSome_8 ++ []
def dkwX0_askedSome_7 : List UInt8 := [17, 0, 246, 21, 4, 104, 17, 0, 246, 184, 0, 118, 132, 4, 1, 167, 255, 180, 29, 17, 78, 32]
abbrev dktX0_askedSome_7 : List UInt8 := dkwX0_askedSome_7 ++ dktX0_askedSome_8
def dkwX0_askedSome_6 : List UInt8 := [21, 4, 46, 182, 0, 188, 42, 180, 0, 53, 184, 0, 249, 42, 180, 0, 53, 3, 42, 180, 0, 84]
abbrev dktX0_askedSome_6 : List UInt8 := dkwX0_askedSome_6 ++ dktX0_askedSome_7
def dkwX0_askedSome_5 : List UInt8 := [29, 79, 29, 42, 42, 180, 0, 78, 21, 4, 46, 182, 0, 188, 190, 4, 96, 104, 62, 42, 42, 180, 0, 78]
abbrev dktX0_askedSome_5 : List UInt8 := dkwX0_askedSome_5 ++ dktX0_askedSome_6
def dkwX0_askedSome_4 : List UInt8 := [182, 0, 103, 172, 4, 62, 3, 54, 4, 21, 4, 42, 180, 1, 25, 162, 0, 73, 42, 180, 0, 81, 21, 4]
abbrev dktX0_askedSome_4 : List UInt8 := dkwX0_askedSome_4 ++ dktX0_askedSome_5
def dkwX0_askedSome_3 : List UInt8 := [79, 42, 89, 180, 1, 25, 4, 96, 181, 1, 25, 132, 3, 1, 167, 255, 201, 28, 154, 0, 9, 42, 4]
abbrev dktX0_askedSome_3 : List UInt8 := dkwX0_askedSome_3 ++ dktX0_askedSome_4
def dkwX0_askedSome_2 : List UInt8 := [180, 0, 46, 29, 50, 198, 0, 7, 4, 167, 0, 4, 3, 126, 61, 42, 180, 0, 78, 42, 180, 1, 25, 29]
abbrev dktX0_askedSome_2 : List UInt8 := dkwX0_askedSome_2 ++ dktX0_askedSome_3
def dkwX0_askedSome_1 : List UInt8 := [181, 1, 25, 4, 61, 3, 62, 29, 16, 8, 162, 0, 55, 27, 29, 122, 4, 126, 4, 160, 0, 40, 28, 42]
abbrev dktX0_askedSome_1 : List UInt8 := dkwX0_askedSome_1 ++ dktX0_askedSome_2
def dkwX0_askedSome_0 : List UInt8 := [27, 4, 17, 0, 255, 184, 0, 93, 153, 0, 11, 27, 184, 1, 12, 7, 164, 0, 5, 2, 172, 42, 3]
abbrev dktX0_askedSome_0 : List UInt8 := dkwX0_askedSome_0 ++ dktX0_askedSome_1
theorem dksX0_askedSome_0 : cX0_askedSome.data.toList.drop 0 = dktX0_askedSome_0 := by decide +kernel
theorem dksX0_askedSome_1 : cX0_askedSome.data.toList.drop 23 = dktX0_askedSome_1 := dk_seg dksX0_askedSome_0 23 rfl rfl
theorem dksX0_askedSome_2 : cX0_askedSome.data.toList.drop 47 = dktX0_askedSome_2 := dk_seg dksX0_askedSome_1 24 rfl rfl
theorem dksX0_askedSome_3 : cX0_askedSome.data.toList.drop 71 = dktX0_askedSome_3 := dk_seg dksX0_askedSome_2 24 rfl rfl
theorem dksX0_askedSome_4 : cX0_askedSome.data.toList.drop 94 = dktX0_askedSome_4 := dk_seg dksX0_askedSome_3 23 rfl rfl
theorem dksX0_askedSome_5 : cX0_askedSome.data.toList.drop 118 = dktX0_askedSome_5 := dk_seg dksX0_askedSome_4 24 rfl rfl
theorem dksX0_askedSome_6 : cX0_askedSome.data.toList.drop 142 = dktX0_askedSome_6 := dk_seg dksX0_askedSome_5 24 rfl rfl
theorem dksX0_askedSome_7 : cX0_askedSome.data.toList.drop 164 = dktX0_askedSome_7 := dk_seg dksX0_askedSome_6 22 rfl rfl
theorem dksX0_askedSome_8 : cX0_askedSome.data.toList.drop 186 = dktX0_askedSome_8 := dk_seg dksX0_askedSome_7 22 rfl rfl
theorem dX0_askedSome_0 : decode cX0_askedSome 0 = .ok (.iload_n 1, 1) := dk_27 (dk_at dksX0_askedSome_0 0 rfl rfl)
theorem dX0_askedSome_1 : decode cX0_askedSome 1 = .ok (.iconst 1, 1) := dk_4 (dk_at dksX0_askedSome_0 1 rfl rfl)
theorem dX0_askedSome_2 : decode cX0_askedSome 2 = .ok (.sipush 255, 3) := dk_17 0 255 (dk_at dksX0_askedSome_0 2 rfl rfl)
theorem dX0_askedSome_5 : decode cX0_askedSome 5 = .ok (.invokestatic 93, 3) := dk_184 0 93 (dk_at dksX0_askedSome_0 5 rfl rfl)
theorem dX0_askedSome_8 : decode cX0_askedSome 8 = .ok (.ifCond .eq 11, 3) := dk_153 0 11 (dk_at dksX0_askedSome_0 8 rfl rfl)
theorem dX0_askedSome_11 : decode cX0_askedSome 11 = .ok (.iload_n 1, 1) := dk_27 (dk_at dksX0_askedSome_0 11 rfl rfl)
theorem dX0_askedSome_12 : decode cX0_askedSome 12 = .ok (.invokestatic 268, 3) := dk_184 1 12 (dk_at dksX0_askedSome_0 12 rfl rfl)
theorem dX0_askedSome_15 : decode cX0_askedSome 15 = .ok (.iconst 4, 1) := dk_7 (dk_at dksX0_askedSome_0 15 rfl rfl)
theorem dX0_askedSome_16 : decode cX0_askedSome 16 = .ok (.if_icmp .le 5, 3) := dk_164 0 5 (dk_at dksX0_askedSome_0 16 rfl rfl)
theorem dX0_askedSome_19 : decode cX0_askedSome 19 = .ok (.iconst (-1), 1) := dk_2 (dk_at dksX0_askedSome_0 19 rfl rfl)
theorem dX0_askedSome_20 : decode cX0_askedSome 20 = .ok (.ireturn, 1) := dk_172 (dk_at dksX0_askedSome_0 20 rfl rfl)
theorem dX0_askedSome_21 : decode cX0_askedSome 21 = .ok (.aload_n 0, 1) := dk_42 (dk_at dksX0_askedSome_0 21 rfl rfl)
theorem dX0_askedSome_22 : decode cX0_askedSome 22 = .ok (.iconst 0, 1) := dk_3 (dk_at dksX0_askedSome_0 22 rfl rfl)
theorem dX0_askedSome_23 : decode cX0_askedSome 23 = .ok (.putfield 281, 3) := dk_181 1 25 (dk_at dksX0_askedSome_1 0 rfl rfl)
theorem dX0_askedSome_26 : decode cX0_askedSome 26 = .ok (.iconst 1, 1) := dk_4 (dk_at dksX0_askedSome_1 3 rfl rfl)
theorem dX0_askedSome_27 : decode cX0_askedSome 27 = .ok (.istore_n 2, 1) := dk_61 (dk_at dksX0_askedSome_1 4 rfl rfl)
theorem dX0_askedSome_28 : decode cX0_askedSome 28 = .ok (.iconst 0, 1) := dk_3 (dk_at dksX0_askedSome_1 5 rfl rfl)
theorem dX0_askedSome_29 : decode cX0_askedSome 29 = .ok (.istore_n 3, 1) := dk_62 (dk_at dksX0_askedSome_1 6 rfl rfl)
theorem dX0_askedSome_30 : decode cX0_askedSome 30 = .ok (.iload_n 3, 1) := dk_29 (dk_at dksX0_askedSome_1 7 rfl rfl)
theorem dX0_askedSome_31 : decode cX0_askedSome 31 = .ok (.bipush 8, 2) := dk_16 8 (dk_at dksX0_askedSome_1 8 rfl rfl)
theorem dX0_askedSome_33 : decode cX0_askedSome 33 = .ok (.if_icmp .ge 55, 3) := dk_162 0 55 (dk_at dksX0_askedSome_1 10 rfl rfl)
theorem dX0_askedSome_36 : decode cX0_askedSome 36 = .ok (.iload_n 1, 1) := dk_27 (dk_at dksX0_askedSome_1 13 rfl rfl)
theorem dX0_askedSome_37 : decode cX0_askedSome 37 = .ok (.iload_n 3, 1) := dk_29 (dk_at dksX0_askedSome_1 14 rfl rfl)
theorem dX0_askedSome_38 : decode cX0_askedSome 38 = .ok (.ishr, 1) := dk_122 (dk_at dksX0_askedSome_1 15 rfl rfl)
theorem dX0_askedSome_39 : decode cX0_askedSome 39 = .ok (.iconst 1, 1) := dk_4 (dk_at dksX0_askedSome_1 16 rfl rfl)
theorem dX0_askedSome_40 : decode cX0_askedSome 40 = .ok (.iand, 1) := dk_126 (dk_at dksX0_askedSome_1 17 rfl rfl)
theorem dX0_askedSome_41 : decode cX0_askedSome 41 = .ok (.iconst 1, 1) := dk_4 (dk_at dksX0_askedSome_1 18 rfl rfl)
theorem dX0_askedSome_42 : decode cX0_askedSome 42 = .ok (.if_icmp .ne 40, 3) := dk_160 0 40 (dk_at dksX0_askedSome_1 19 rfl rfl)
theorem dX0_askedSome_45 : decode cX0_askedSome 45 = .ok (.iload_n 2, 1) := dk_28 (dk_at dksX0_askedSome_1 22 rfl rfl)
theorem dX0_askedSome_46 : decode cX0_askedSome 46 = .ok (.aload_n 0, 1) := dk_42 (dk_at dksX0_askedSome_1 23 rfl rfl)
theorem dX0_askedSome_47 : decode cX0_askedSome 47 = .ok (.getfield 46, 3) := dk_180 0 46 (dk_at dksX0_askedSome_2 0 rfl rfl)
theorem dX0_askedSome_50 : decode cX0_askedSome 50 = .ok (.iload_n 3, 1) := dk_29 (dk_at dksX0_askedSome_2 3 rfl rfl)
theorem dX0_askedSome_51 : decode cX0_askedSome 51 = .ok (.aaload, 1) := dk_50 (dk_at dksX0_askedSome_2 4 rfl rfl)
theorem dX0_askedSome_52 : decode cX0_askedSome 52 = .ok (.ifnull 7, 3) := dk_198 0 7 (dk_at dksX0_askedSome_2 5 rfl rfl)
theorem dX0_askedSome_55 : decode cX0_askedSome 55 = .ok (.iconst 1, 1) := dk_4 (dk_at dksX0_askedSome_2 8 rfl rfl)
theorem dX0_askedSome_56 : decode cX0_askedSome 56 = .ok (.goto 4, 3) := dk_167 0 4 (dk_at dksX0_askedSome_2 9 rfl rfl)
theorem dX0_askedSome_59 : decode cX0_askedSome 59 = .ok (.iconst 0, 1) := dk_3 (dk_at dksX0_askedSome_2 12 rfl rfl)
theorem dX0_askedSome_60 : decode cX0_askedSome 60 = .ok (.iand, 1) := dk_126 (dk_at dksX0_askedSome_2 13 rfl rfl)
theorem dX0_askedSome_61 : decode cX0_askedSome 61 = .ok (.istore_n 2, 1) := dk_61 (dk_at dksX0_askedSome_2 14 rfl rfl)
theorem dX0_askedSome_62 : decode cX0_askedSome 62 = .ok (.aload_n 0, 1) := dk_42 (dk_at dksX0_askedSome_2 15 rfl rfl)
theorem dX0_askedSome_63 : decode cX0_askedSome 63 = .ok (.getfield 78, 3) := dk_180 0 78 (dk_at dksX0_askedSome_2 16 rfl rfl)
theorem dX0_askedSome_66 : decode cX0_askedSome 66 = .ok (.aload_n 0, 1) := dk_42 (dk_at dksX0_askedSome_2 19 rfl rfl)
theorem dX0_askedSome_67 : decode cX0_askedSome 67 = .ok (.getfield 281, 3) := dk_180 1 25 (dk_at dksX0_askedSome_2 20 rfl rfl)
theorem dX0_askedSome_70 : decode cX0_askedSome 70 = .ok (.iload_n 3, 1) := dk_29 (dk_at dksX0_askedSome_2 23 rfl rfl)
theorem dX0_askedSome_71 : decode cX0_askedSome 71 = .ok (.iastore, 1) := dk_79 (dk_at dksX0_askedSome_3 0 rfl rfl)
theorem dX0_askedSome_72 : decode cX0_askedSome 72 = .ok (.aload_n 0, 1) := dk_42 (dk_at dksX0_askedSome_3 1 rfl rfl)
theorem dX0_askedSome_73 : decode cX0_askedSome 73 = .ok (.dup, 1) := dk_89 (dk_at dksX0_askedSome_3 2 rfl rfl)
theorem dX0_askedSome_74 : decode cX0_askedSome 74 = .ok (.getfield 281, 3) := dk_180 1 25 (dk_at dksX0_askedSome_3 3 rfl rfl)
theorem dX0_askedSome_77 : decode cX0_askedSome 77 = .ok (.iconst 1, 1) := dk_4 (dk_at dksX0_askedSome_3 6 rfl rfl)
theorem dX0_askedSome_78 : decode cX0_askedSome 78 = .ok (.iadd, 1) := dk_96 (dk_at dksX0_askedSome_3 7 rfl rfl)
theorem dX0_askedSome_79 : decode cX0_askedSome 79 = .ok (.putfield 281, 3) := dk_181 1 25 (dk_at dksX0_askedSome_3 8 rfl rfl)
theorem dX0_askedSome_82 : decode cX0_askedSome 82 = .ok (.iinc 3 1, 3) := dk_132 3 1 (dk_at dksX0_askedSome_3 11 rfl rfl)
theorem dX0_askedSome_85 : decode cX0_askedSome 85 = .ok (.goto (-55), 3) := dk_167 255 201 (dk_at dksX0_askedSome_3 14 rfl rfl)
theorem dX0_askedSome_88 : decode cX0_askedSome 88 = .ok (.iload_n 2, 1) := dk_28 (dk_at dksX0_askedSome_3 17 rfl rfl)
theorem dX0_askedSome_89 : decode cX0_askedSome 89 = .ok (.ifCond .ne 9, 3) := dk_154 0 9 (dk_at dksX0_askedSome_3 18 rfl rfl)
theorem dX0_askedSome_92 : decode cX0_askedSome 92 = .ok (.aload_n 0, 1) := dk_42 (dk_at dksX0_askedSome_3 21 rfl rfl)
theorem dX0_askedSome_93 : decode cX0_askedSome 93 = .ok (.iconst 1, 1) := dk_4 (dk_at dksX0_askedSome_3 22 rfl rfl)
theorem dX0_askedSome_94 : decode cX0_askedSome 94 = .ok (.invokevirtual 103, 3) := dk_182 0 103 (dk_at dksX0_askedSome_4 0 rfl rfl)
theorem dX0_askedSome_97 : decode cX0_askedSome 97 = .ok (.ireturn, 1) := dk_172 (dk_at dksX0_askedSome_4 3 rfl rfl)
theorem dX0_askedSome_98 : decode cX0_askedSome 98 = .ok (.iconst 1, 1) := dk_4 (dk_at dksX0_askedSome_4 4 rfl rfl)
theorem dX0_askedSome_99 : decode cX0_askedSome 99 = .ok (.istore_n 3, 1) := dk_62 (dk_at dksX0_askedSome_4 5 rfl rfl)
theorem dX0_askedSome_100 : decode cX0_askedSome 100 = .ok (.iconst 0, 1) := dk_3 (dk_at dksX0_askedSome_4 6 rfl rfl)
theorem dX0_askedSome_101 : decode cX0_askedSome 101 = .ok (.istore 4, 2) := dk_54 4 (dk_at dksX0_askedSome_4 7 rfl rfl)
theorem dX0_askedSome_103 : decode cX0_askedSome 103 = .ok (.iload 4, 2) := dk_21 4 (dk_at dksX0_askedSome_4 9 rfl rfl)
theorem dX0_askedSome_105 : decode cX0_askedSome 105 = .ok (.aload_n 0, 1) := dk_42 (dk_at dksX0_askedSome_4 11 rfl rfl)
theorem dX0_askedSome_106 : decode cX0_askedSome 106 = .ok (.getfield 281, 3) := dk_180 1 25 (dk_at dksX0_askedSome_4 12 rfl rfl)
theorem dX0_askedSome_109 : decode cX0_askedSome 109 = .ok (.if_icmp .ge 73, 3) := dk_162 0 73 (dk_at dksX0_askedSome_4 15 rfl rfl)
theorem dX0_askedSome_112 : decode cX0_askedSome 112 = .ok (.aload_n 0, 1) := dk_42 (dk_at dksX0_askedSome_4 18 rfl rfl)
theorem dX0_askedSome_113 : decode cX0_askedSome 113 = .ok (.getfield 81, 3) := dk_180 0 81 (dk_at dksX0_askedSome_4 19 rfl rfl)
theorem dX0_askedSome_116 : decode cX0_askedSome 116 = .ok (.iload 4, 2) := dk_21 4 (dk_at dksX0_askedSome_4 22 rfl rfl)
theorem dX0_askedSome_118 : decode cX0_askedSome 118 = .ok (.iload_n 3, 1) := dk_29 (dk_at dksX0_askedSome_5 0 rfl rfl)
theorem dX0_askedSome_119 : decode cX0_askedSome 119 = .ok (.iastore, 1) := dk_79 (dk_at dksX0_askedSome_5 1 rfl rfl)
theorem dX0_askedSome_120 : decode cX0_askedSome 120 = .ok (.iload_n 3, 1) := dk_29 (dk_at dksX0_askedSome_5 2 rfl rfl)
theorem dX0_askedSome_121 : decode cX0_askedSome 121 = .ok (.aload_n 0, 1) := dk_42 (dk_at dksX0_askedSome_5 3 rfl rfl)
theorem dX0_askedSome_122 : decode cX0_askedSome 122 = .ok (.aload_n 0, 1) := dk_42 (dk_at dksX0_askedSome_5 4 rfl rfl)
theorem dX0_askedSome_123 : decode cX0_askedSome 123 = .ok (.getfield 78, 3) := dk_180 0 78 (dk_at dksX0_askedSome_5 5 rfl rfl)
theorem dX0_askedSome_126 : decode cX0_askedSome 126 = .ok (.iload 4, 2) := dk_21 4 (dk_at dksX0_askedSome_5 8 rfl rfl)
theorem dX0_askedSome_128 : decode cX0_askedSome 128 = .ok (.iaload, 1) := dk_46 (dk_at dksX0_askedSome_5 10 rfl rfl)
theorem dX0_askedSome_129 : decode cX0_askedSome 129 = .ok (.invokevirtual 188, 3) := dk_182 0 188 (dk_at dksX0_askedSome_5 11 rfl rfl)
theorem dX0_askedSome_132 : decode cX0_askedSome 132 = .ok (.arraylength, 1) := dk_190 (dk_at dksX0_askedSome_5 14 rfl rfl)
theorem dX0_askedSome_133 : decode cX0_askedSome 133 = .ok (.iconst 1, 1) := dk_4 (dk_at dksX0_askedSome_5 15 rfl rfl)
theorem dX0_askedSome_134 : decode cX0_askedSome 134 = .ok (.iadd, 1) := dk_96 (dk_at dksX0_askedSome_5 16 rfl rfl)
theorem dX0_askedSome_135 : decode cX0_askedSome 135 = .ok (.imul, 1) := dk_104 (dk_at dksX0_askedSome_5 17 rfl rfl)
theorem dX0_askedSome_136 : decode cX0_askedSome 136 = .ok (.istore_n 3, 1) := dk_62 (dk_at dksX0_askedSome_5 18 rfl rfl)
theorem dX0_askedSome_137 : decode cX0_askedSome 137 = .ok (.aload_n 0, 1) := dk_42 (dk_at dksX0_askedSome_5 19 rfl rfl)
theorem dX0_askedSome_138 : decode cX0_askedSome 138 = .ok (.aload_n 0, 1) := dk_42 (dk_at dksX0_askedSome_5 20 rfl rfl)
theorem dX0_askedSome_139 : decode cX0_askedSome 139 = .ok (.getfield 78, 3) := dk_180 0 78 (dk_at dksX0_askedSome_5 21 rfl rfl)
theorem dX0_askedSome_142 : decode cX0_askedSome 142 = .ok (.iload 4, 2) := dk_21 4 (dk_at dksX0_askedSome_6 0 rfl rfl)
theorem dX0_askedSome_144 : decode cX0_askedSome 144 = .ok (.iaload, 1) := dk_46 (dk_at dksX0_askedSome_6 2 rfl rfl)
theorem dX0_askedSome_145 : decode cX0_askedSome 145 = .ok (.invokevirtual 188, 3) := dk_182 0 188 (dk_at dksX0_askedSome_6 3 rfl rfl)
theorem dX0_askedSome_148 : decode cX0_askedSome 148 = .ok (.aload_n 0, 1) := dk_42 (dk_at dksX0_askedSome_6 6 rfl rfl)
theorem dX0_askedSome_149 : decode cX0_askedSome 149 = .ok (.getfield 53, 3) := dk_180 0 53 (dk_at dksX0_askedSome_6 7 rfl rfl)
theorem dX0_askedSome_152 : decode cX0_askedSome 152 = .ok (.invokestatic 249, 3) := dk_184 0 249 (dk_at dksX0_askedSome_6 10 rfl rfl)
theorem dX0_askedSome_155 : decode cX0_askedSome 155 = .ok (.aload_n 0, 1) := dk_42 (dk_at dksX0_askedSome_6 13 rfl rfl)
theorem dX0_askedSome_156 : decode cX0_askedSome 156 = .ok (.getfield 53, 3) := dk_180 0 53 (dk_at dksX0_askedSome_6 14 rfl rfl)
theorem dX0_askedSome_159 : decode cX0_askedSome 159 = .ok (.iconst 0, 1) := dk_3 (dk_at dksX0_askedSome_6 17 rfl rfl)
theorem dX0_askedSome_160 : decode cX0_askedSome 160 = .ok (.aload_n 0, 1) := dk_42 (dk_at dksX0_askedSome_6 18 rfl rfl)
theorem dX0_askedSome_161 : decode cX0_askedSome 161 = .ok (.getfield 84, 3) := dk_180 0 84 (dk_at dksX0_askedSome_6 19 rfl rfl)
theorem dX0_askedSome_164 : decode cX0_askedSome 164 = .ok (.sipush 246, 3) := dk_17 0 246 (dk_at dksX0_askedSome_7 0 rfl rfl)
theorem dX0_askedSome_167 : decode cX0_askedSome 167 = .ok (.iload 4, 2) := dk_21 4 (dk_at dksX0_askedSome_7 3 rfl rfl)
theorem dX0_askedSome_169 : decode cX0_askedSome 169 = .ok (.imul, 1) := dk_104 (dk_at dksX0_askedSome_7 5 rfl rfl)
theorem dX0_askedSome_170 : decode cX0_askedSome 170 = .ok (.sipush 246, 3) := dk_17 0 246 (dk_at dksX0_askedSome_7 6 rfl rfl)
theorem dX0_askedSome_173 : decode cX0_askedSome 173 = .ok (.invokestatic 118, 3) := dk_184 0 118 (dk_at dksX0_askedSome_7 9 rfl rfl)
theorem dX0_askedSome_176 : decode cX0_askedSome 176 = .ok (.iinc 4 1, 3) := dk_132 4 1 (dk_at dksX0_askedSome_7 12 rfl rfl)
theorem dX0_askedSome_179 : decode cX0_askedSome 179 = .ok (.goto (-76), 3) := dk_167 255 180 (dk_at dksX0_askedSome_7 15 rfl rfl)
theorem dX0_askedSome_182 : decode cX0_askedSome 182 = .ok (.iload_n 3, 1) := dk_29 (dk_at dksX0_askedSome_7 18 rfl rfl)
theorem dX0_askedSome_183 : decode cX0_askedSome 183 = .ok (.sipush 20000, 3) := dk_17 78 32 (dk_at dksX0_askedSome_7 19 rfl rfl)
theorem dX0_askedSome_186 : decode cX0_askedSome 186 = .ok (.if_icmp .le 8, 3) := dk_164 0 8 (dk_at dksX0_askedSome_8 0 rfl rfl)
theorem dX0_askedSome_189 : decode cX0_askedSome 189 = .ok (.bipush (-6), 2) := dk_16 250 (dk_at dksX0_askedSome_8 3 rfl rfl)
theorem dX0_askedSome_191 : decode cX0_askedSome 191 = .ok (.goto 4, 3) := dk_167 0 4 (dk_at dksX0_askedSome_8 5 rfl rfl)
theorem dX0_askedSome_194 : decode cX0_askedSome 194 = .ok (.iload_n 3, 1) := dk_29 (dk_at dksX0_askedSome_8 8 rfl rfl)
theorem dX0_askedSome_195 : decode cX0_askedSome 195 = .ok (.ireturn, 1) := dk_172 (dk_at dksX0_askedSome_8 9 rfl rfl)
abbrev cX0_allGo : ByteArray := prog_1_method_65_code
def yX0_allGo : MethodName := ⟨RX0, "allGo", "(II)I"⟩
def dkwX0_allGo_2 : List UInt8 := [172, 29, 42, 180, 0, 81, 21, 4, 46, 21, 5, 104, 96, 62, 132, 4, 1, 167, 255, 196, 29, 172]
abbrev dktX0_allGo_2 : List UInt8 := dkwX0_allGo_2 ++ []
def dkwX0_allGo_1 : List UInt8 := [104, 42, 27, 21, 4, 182, 1, 28, 96, 104, 28, 96, 46, 54, 5, 21, 5, 16, 247, 160, 0, 6, 16, 247]
abbrev dktX0_allGo_1 : List UInt8 := dkwX0_allGo_1 ++ dktX0_allGo_2
def dkwX0_allGo_0 : List UInt8 := [3, 62, 3, 54, 4, 21, 4, 42, 180, 1, 25, 162, 0, 57, 42, 180, 0, 84, 16, 6, 16, 41, 21, 4]
abbrev dktX0_allGo_0 : List UInt8 := dkwX0_allGo_0 ++ dktX0_allGo_1
theorem dksX0_allGo_0 : cX0_allGo.data.toList.drop 0 = dktX0_allGo_0 := by decide +kernel
theorem dksX0_allGo_1 : cX0_allGo.data.toList.drop 24 = dktX0_allGo_1 := dk_seg dksX0_allGo_0 24 rfl rfl
theorem dksX0_allGo_2 : cX0_allGo.data.toList.drop 48 = dktX0_allGo_2 := dk_seg dksX0_allGo_1 24 rfl rfl
theorem dX0_allGo_0 : decode cX0_allGo 0 = .ok (.iconst 0, 1) := dk_3 (dk_at dksX0_allGo_0 0 rfl rfl)
theorem dX0_allGo_1 : decode cX0_allGo 1 = .ok (.istore_n 3, 1) := dk_62 (dk_at dksX0_allGo_0 1 rfl rfl)
theorem dX0_allGo_2 : decode cX0_allGo 2 = .ok (.iconst 0, 1) := dk_3 (dk_at dksX0_allGo_0 2 rfl rfl)
theorem dX0_allGo_3 : decode cX0_allGo 3 = .ok (.istore 4, 2) := dk_54 4 (dk_at dksX0_allGo_0 3 rfl rfl)
theorem dX0_allGo_5 : decode cX0_allGo 5 = .ok (.iload 4, 2) := dk_21 4 (dk_at dksX0_allGo_0 5 rfl rfl)
theorem dX0_allGo_7 : decode cX0_allGo 7 = .ok (.aload_n 0, 1) := dk_42 (dk_at dksX0_allGo_0 7 rfl rfl)
theorem dX0_allGo_8 : decode cX0_allGo 8 = .ok (.getfield 281, 3) := dk_180 1 25 (dk_at dksX0_allGo_0 8 rfl rfl)
theorem dX0_allGo_11 : decode cX0_allGo 11 = .ok (.if_icmp .ge 57, 3) := dk_162 0 57 (dk_at dksX0_allGo_0 11 rfl rfl)
theorem dX0_allGo_14 : decode cX0_allGo 14 = .ok (.aload_n 0, 1) := dk_42 (dk_at dksX0_allGo_0 14 rfl rfl)
theorem dX0_allGo_15 : decode cX0_allGo 15 = .ok (.getfield 84, 3) := dk_180 0 84 (dk_at dksX0_allGo_0 15 rfl rfl)
theorem dX0_allGo_18 : decode cX0_allGo 18 = .ok (.bipush 6, 2) := dk_16 6 (dk_at dksX0_allGo_0 18 rfl rfl)
theorem dX0_allGo_20 : decode cX0_allGo 20 = .ok (.bipush 41, 2) := dk_16 41 (dk_at dksX0_allGo_0 20 rfl rfl)
theorem dX0_allGo_22 : decode cX0_allGo 22 = .ok (.iload 4, 2) := dk_21 4 (dk_at dksX0_allGo_0 22 rfl rfl)
theorem dX0_allGo_24 : decode cX0_allGo 24 = .ok (.imul, 1) := dk_104 (dk_at dksX0_allGo_1 0 rfl rfl)
theorem dX0_allGo_25 : decode cX0_allGo 25 = .ok (.aload_n 0, 1) := dk_42 (dk_at dksX0_allGo_1 1 rfl rfl)
theorem dX0_allGo_26 : decode cX0_allGo 26 = .ok (.iload_n 1, 1) := dk_27 (dk_at dksX0_allGo_1 2 rfl rfl)
theorem dX0_allGo_27 : decode cX0_allGo 27 = .ok (.iload 4, 2) := dk_21 4 (dk_at dksX0_allGo_1 3 rfl rfl)
theorem dX0_allGo_29 : decode cX0_allGo 29 = .ok (.invokevirtual 284, 3) := dk_182 1 28 (dk_at dksX0_allGo_1 5 rfl rfl)
theorem dX0_allGo_32 : decode cX0_allGo 32 = .ok (.iadd, 1) := dk_96 (dk_at dksX0_allGo_1 8 rfl rfl)
theorem dX0_allGo_33 : decode cX0_allGo 33 = .ok (.imul, 1) := dk_104 (dk_at dksX0_allGo_1 9 rfl rfl)
theorem dX0_allGo_34 : decode cX0_allGo 34 = .ok (.iload_n 2, 1) := dk_28 (dk_at dksX0_allGo_1 10 rfl rfl)
theorem dX0_allGo_35 : decode cX0_allGo 35 = .ok (.iadd, 1) := dk_96 (dk_at dksX0_allGo_1 11 rfl rfl)
theorem dX0_allGo_36 : decode cX0_allGo 36 = .ok (.iaload, 1) := dk_46 (dk_at dksX0_allGo_1 12 rfl rfl)
theorem dX0_allGo_37 : decode cX0_allGo 37 = .ok (.istore 5, 2) := dk_54 5 (dk_at dksX0_allGo_1 13 rfl rfl)
theorem dX0_allGo_39 : decode cX0_allGo 39 = .ok (.iload 5, 2) := dk_21 5 (dk_at dksX0_allGo_1 15 rfl rfl)
theorem dX0_allGo_41 : decode cX0_allGo 41 = .ok (.bipush (-9), 2) := dk_16 247 (dk_at dksX0_allGo_1 17 rfl rfl)
theorem dX0_allGo_43 : decode cX0_allGo 43 = .ok (.if_icmp .ne 6, 3) := dk_160 0 6 (dk_at dksX0_allGo_1 19 rfl rfl)
theorem dX0_allGo_46 : decode cX0_allGo 46 = .ok (.bipush (-9), 2) := dk_16 247 (dk_at dksX0_allGo_1 22 rfl rfl)
theorem dX0_allGo_48 : decode cX0_allGo 48 = .ok (.ireturn, 1) := dk_172 (dk_at dksX0_allGo_2 0 rfl rfl)
theorem dX0_allGo_49 : decode cX0_allGo 49 = .ok (.iload_n 3, 1) := dk_29 (dk_at dksX0_allGo_2 1 rfl rfl)
theorem dX0_allGo_50 : decode cX0_allGo 50 = .ok (.aload_n 0, 1) := dk_42 (dk_at dksX0_allGo_2 2 rfl rfl)
theorem dX0_allGo_51 : decode cX0_allGo 51 = .ok (.getfield 81, 3) := dk_180 0 81 (dk_at dksX0_allGo_2 3 rfl rfl)
theorem dX0_allGo_54 : decode cX0_allGo 54 = .ok (.iload 4, 2) := dk_21 4 (dk_at dksX0_allGo_2 6 rfl rfl)
theorem dX0_allGo_56 : decode cX0_allGo 56 = .ok (.iaload, 1) := dk_46 (dk_at dksX0_allGo_2 8 rfl rfl)
theorem dX0_allGo_57 : decode cX0_allGo 57 = .ok (.iload 5, 2) := dk_21 5 (dk_at dksX0_allGo_2 9 rfl rfl)
theorem dX0_allGo_59 : decode cX0_allGo 59 = .ok (.imul, 1) := dk_104 (dk_at dksX0_allGo_2 11 rfl rfl)
theorem dX0_allGo_60 : decode cX0_allGo 60 = .ok (.iadd, 1) := dk_96 (dk_at dksX0_allGo_2 12 rfl rfl)
theorem dX0_allGo_61 : decode cX0_allGo 61 = .ok (.istore_n 3, 1) := dk_62 (dk_at dksX0_allGo_2 13 rfl rfl)
theorem dX0_allGo_62 : decode cX0_allGo 62 = .ok (.iinc 4 1, 3) := dk_132 4 1 (dk_at dksX0_allGo_2 14 rfl rfl)
theorem dX0_allGo_65 : decode cX0_allGo 65 = .ok (.goto (-60), 3) := dk_167 255 196 (dk_at dksX0_allGo_2 17 rfl rfl)
theorem dX0_allGo_68 : decode cX0_allGo 68 = .ok (.iload_n 3, 1) := dk_29 (dk_at dksX0_allGo_2 20 rfl rfl)
theorem dX0_allGo_69 : decode cX0_allGo 69 = .ok (.ireturn, 1) := dk_172 (dk_at dksX0_allGo_2 21 rfl rfl)
abbrev cX0_placeIn : ByteArray := prog_1_method_64_code
def yX0_placeIn : MethodName := ⟨RX0, "placeIn", "(II)I"⟩
def dkwX0_placeIn_0 : List UInt8 := [27, 42, 180, 0, 81, 28, 46, 108, 42, 42, 180, 0, 78, 28, 46, 182, 0, 188, 190, 4, 96, 112, 172]
abbrev dktX0_placeIn_0 : List UInt8 := dkwX0_placeIn_0 ++ []
theorem dksX0_placeIn_0 : cX0_placeIn.data.toList.drop 0 = dktX0_placeIn_0 := by decide +kernel
theorem dX0_placeIn_0 : decode cX0_placeIn 0 = .ok (.iload_n 1, 1) := dk_27 (dk_at dksX0_placeIn_0 0 rfl rfl)
theorem dX0_placeIn_1 : decode cX0_placeIn 1 = .ok (.aload_n 0, 1) := dk_42 (dk_at dksX0_placeIn_0 1 rfl rfl)
theorem dX0_placeIn_2 : decode cX0_placeIn 2 = .ok (.getfield 81, 3) := dk_180 0 81 (dk_at dksX0_placeIn_0 2 rfl rfl)
theorem dX0_placeIn_5 : decode cX0_placeIn 5 = .ok (.iload_n 2, 1) := dk_28 (dk_at dksX0_placeIn_0 5 rfl rfl)
theorem dX0_placeIn_6 : decode cX0_placeIn 6 = .ok (.iaload, 1) := dk_46 (dk_at dksX0_placeIn_0 6 rfl rfl)
theorem dX0_placeIn_7 : decode cX0_placeIn 7 = .ok (.idiv, 1) := dk_108 (dk_at dksX0_placeIn_0 7 rfl rfl)
theorem dX0_placeIn_8 : decode cX0_placeIn 8 = .ok (.aload_n 0, 1) := dk_42 (dk_at dksX0_placeIn_0 8 rfl rfl)
theorem dX0_placeIn_9 : decode cX0_placeIn 9 = .ok (.aload_n 0, 1) := dk_42 (dk_at dksX0_placeIn_0 9 rfl rfl)
theorem dX0_placeIn_10 : decode cX0_placeIn 10 = .ok (.getfield 78, 3) := dk_180 0 78 (dk_at dksX0_placeIn_0 10 rfl rfl)
theorem dX0_placeIn_13 : decode cX0_placeIn 13 = .ok (.iload_n 2, 1) := dk_28 (dk_at dksX0_placeIn_0 13 rfl rfl)
theorem dX0_placeIn_14 : decode cX0_placeIn 14 = .ok (.iaload, 1) := dk_46 (dk_at dksX0_placeIn_0 14 rfl rfl)
theorem dX0_placeIn_15 : decode cX0_placeIn 15 = .ok (.invokevirtual 188, 3) := dk_182 0 188 (dk_at dksX0_placeIn_0 15 rfl rfl)
theorem dX0_placeIn_18 : decode cX0_placeIn 18 = .ok (.arraylength, 1) := dk_190 (dk_at dksX0_placeIn_0 18 rfl rfl)
theorem dX0_placeIn_19 : decode cX0_placeIn 19 = .ok (.iconst 1, 1) := dk_4 (dk_at dksX0_placeIn_0 19 rfl rfl)
theorem dX0_placeIn_20 : decode cX0_placeIn 20 = .ok (.iadd, 1) := dk_96 (dk_at dksX0_placeIn_0 20 rfl rfl)
theorem dX0_placeIn_21 : decode cX0_placeIn 21 = .ok (.irem, 1) := dk_112 (dk_at dksX0_placeIn_0 21 rfl rfl)
theorem dX0_placeIn_22 : decode cX0_placeIn 22 = .ok (.ireturn, 1) := dk_172 (dk_at dksX0_placeIn_0 22 rfl rfl)
abbrev cX0_cover : ByteArray := prog_1_method_68_code
def yX0_cover : MethodName := ⟨RX0, "cover", "(II)I"⟩
def dkwX0_cover_9 : List UInt8 := [132, 7, 1, 167, 255, 218, 42, 180, 0, 34, 28, 25, 5, 83, 21, 4, 172]
abbrev dktX0_cover_9 : List UInt8 := dkwX0_cover_9 ++ []
def dkwX0_cover_8 : List UInt8 := [180, 0, 90, 21, 6, 46, 79, 42, 21, 6, 42, 180, 0, 90, 21, 6, 46, 182, 1, 37, 54, 6]
abbrev dktX0_cover_8 : List UInt8 := dkwX0_cover_8 ++ dktX0_cover_9
def dkwX0_cover_7 : List UInt8 := [188, 10, 58, 5, 3, 54, 6, 3, 54, 7, 21, 7, 25, 5, 190, 162, 0, 36, 25, 5, 21, 7, 42]
abbrev dktX0_cover_7 : List UInt8 := dkwX0_cover_7 ++ dktX0_cover_8
def dkwX0_cover_6 : List UInt8 := [167, 255, 171, 132, 4, 255, 167, 255, 148, 42, 180, 0, 87, 3, 46, 54, 4, 21, 4, 16, 40, 184, 0, 153]
abbrev dktX0_cover_6 : List UInt8 := dkwX0_cover_6 ++ dktX0_cover_7
def dkwX0_cover_5 : List UInt8 := [42, 180, 0, 87, 21, 6, 46, 4, 96, 79, 42, 180, 0, 90, 21, 4, 21, 5, 79, 132, 5, 1]
abbrev dktX0_cover_5 : List UInt8 := dkwX0_cover_5 ++ dktX0_cover_6
def dkwX0_cover_4 : List UInt8 := [180, 0, 87, 21, 6, 46, 4, 96, 42, 180, 0, 87, 21, 4, 46, 162, 0, 28, 42, 180, 0, 87, 21, 4]
abbrev dktX0_cover_4 : List UInt8 := dkwX0_cover_4 ++ dktX0_cover_5
def dkwX0_cover_3 : List UInt8 := [54, 6, 21, 6, 21, 4, 159, 0, 59, 42, 180, 0, 90, 21, 4, 46, 16, 247, 159, 0, 22, 42]
abbrev dktX0_cover_3 : List UInt8 := dkwX0_cover_3 ++ dktX0_cover_4
def dkwX0_cover_2 : List UInt8 := [16, 247, 79, 3, 54, 5, 21, 5, 42, 180, 0, 30, 162, 0, 82, 42, 21, 4, 21, 5, 182, 1, 37]
abbrev dktX0_cover_2 : List UInt8 := dkwX0_cover_2 ++ dktX0_cover_3
def dkwX0_cover_1 : List UInt8 := [180, 0, 87, 29, 4, 100, 3, 79, 29, 5, 100, 54, 4, 21, 4, 155, 0, 109, 42, 180, 0, 90, 21, 4]
abbrev dktX0_cover_1 : List UInt8 := dkwX0_cover_1 ++ dktX0_cover_2
def dkwX0_cover_0 : List UInt8 := [28, 184, 0, 97, 154, 0, 5, 2, 172, 42, 27, 182, 1, 31, 62, 29, 156, 0, 5, 29, 172, 42]
abbrev dktX0_cover_0 : List UInt8 := dkwX0_cover_0 ++ dktX0_cover_1
theorem dksX0_cover_0 : cX0_cover.data.toList.drop 0 = dktX0_cover_0 := by decide +kernel
theorem dksX0_cover_1 : cX0_cover.data.toList.drop 22 = dktX0_cover_1 := dk_seg dksX0_cover_0 22 rfl rfl
theorem dksX0_cover_2 : cX0_cover.data.toList.drop 46 = dktX0_cover_2 := dk_seg dksX0_cover_1 24 rfl rfl
theorem dksX0_cover_3 : cX0_cover.data.toList.drop 69 = dktX0_cover_3 := dk_seg dksX0_cover_2 23 rfl rfl
theorem dksX0_cover_4 : cX0_cover.data.toList.drop 91 = dktX0_cover_4 := dk_seg dksX0_cover_3 22 rfl rfl
theorem dksX0_cover_5 : cX0_cover.data.toList.drop 115 = dktX0_cover_5 := dk_seg dksX0_cover_4 24 rfl rfl
theorem dksX0_cover_6 : cX0_cover.data.toList.drop 137 = dktX0_cover_6 := dk_seg dksX0_cover_5 22 rfl rfl
theorem dksX0_cover_7 : cX0_cover.data.toList.drop 161 = dktX0_cover_7 := dk_seg dksX0_cover_6 24 rfl rfl
theorem dksX0_cover_8 : cX0_cover.data.toList.drop 184 = dktX0_cover_8 := dk_seg dksX0_cover_7 23 rfl rfl
theorem dksX0_cover_9 : cX0_cover.data.toList.drop 206 = dktX0_cover_9 := dk_seg dksX0_cover_8 22 rfl rfl
theorem dX0_cover_0 : decode cX0_cover 0 = .ok (.iload_n 2, 1) := dk_28 (dk_at dksX0_cover_0 0 rfl rfl)
theorem dX0_cover_1 : decode cX0_cover 1 = .ok (.invokestatic 97, 3) := dk_184 0 97 (dk_at dksX0_cover_0 1 rfl rfl)
theorem dX0_cover_4 : decode cX0_cover 4 = .ok (.ifCond .ne 5, 3) := dk_154 0 5 (dk_at dksX0_cover_0 4 rfl rfl)
theorem dX0_cover_7 : decode cX0_cover 7 = .ok (.iconst (-1), 1) := dk_2 (dk_at dksX0_cover_0 7 rfl rfl)
theorem dX0_cover_8 : decode cX0_cover 8 = .ok (.ireturn, 1) := dk_172 (dk_at dksX0_cover_0 8 rfl rfl)
theorem dX0_cover_9 : decode cX0_cover 9 = .ok (.aload_n 0, 1) := dk_42 (dk_at dksX0_cover_0 9 rfl rfl)
theorem dX0_cover_10 : decode cX0_cover 10 = .ok (.iload_n 1, 1) := dk_27 (dk_at dksX0_cover_0 10 rfl rfl)
theorem dX0_cover_11 : decode cX0_cover 11 = .ok (.invokevirtual 287, 3) := dk_182 1 31 (dk_at dksX0_cover_0 11 rfl rfl)
theorem dX0_cover_14 : decode cX0_cover 14 = .ok (.istore_n 3, 1) := dk_62 (dk_at dksX0_cover_0 14 rfl rfl)
theorem dX0_cover_15 : decode cX0_cover 15 = .ok (.iload_n 3, 1) := dk_29 (dk_at dksX0_cover_0 15 rfl rfl)
theorem dX0_cover_16 : decode cX0_cover 16 = .ok (.ifCond .ge 5, 3) := dk_156 0 5 (dk_at dksX0_cover_0 16 rfl rfl)
theorem dX0_cover_19 : decode cX0_cover 19 = .ok (.iload_n 3, 1) := dk_29 (dk_at dksX0_cover_0 19 rfl rfl)
theorem dX0_cover_20 : decode cX0_cover 20 = .ok (.ireturn, 1) := dk_172 (dk_at dksX0_cover_0 20 rfl rfl)
theorem dX0_cover_21 : decode cX0_cover 21 = .ok (.aload_n 0, 1) := dk_42 (dk_at dksX0_cover_0 21 rfl rfl)
theorem dX0_cover_22 : decode cX0_cover 22 = .ok (.getfield 87, 3) := dk_180 0 87 (dk_at dksX0_cover_1 0 rfl rfl)
theorem dX0_cover_25 : decode cX0_cover 25 = .ok (.iload_n 3, 1) := dk_29 (dk_at dksX0_cover_1 3 rfl rfl)
theorem dX0_cover_26 : decode cX0_cover 26 = .ok (.iconst 1, 1) := dk_4 (dk_at dksX0_cover_1 4 rfl rfl)
theorem dX0_cover_27 : decode cX0_cover 27 = .ok (.isub, 1) := dk_100 (dk_at dksX0_cover_1 5 rfl rfl)
theorem dX0_cover_28 : decode cX0_cover 28 = .ok (.iconst 0, 1) := dk_3 (dk_at dksX0_cover_1 6 rfl rfl)
theorem dX0_cover_29 : decode cX0_cover 29 = .ok (.iastore, 1) := dk_79 (dk_at dksX0_cover_1 7 rfl rfl)
theorem dX0_cover_30 : decode cX0_cover 30 = .ok (.iload_n 3, 1) := dk_29 (dk_at dksX0_cover_1 8 rfl rfl)
theorem dX0_cover_31 : decode cX0_cover 31 = .ok (.iconst 2, 1) := dk_5 (dk_at dksX0_cover_1 9 rfl rfl)
theorem dX0_cover_32 : decode cX0_cover 32 = .ok (.isub, 1) := dk_100 (dk_at dksX0_cover_1 10 rfl rfl)
theorem dX0_cover_33 : decode cX0_cover 33 = .ok (.istore 4, 2) := dk_54 4 (dk_at dksX0_cover_1 11 rfl rfl)
theorem dX0_cover_35 : decode cX0_cover 35 = .ok (.iload 4, 2) := dk_21 4 (dk_at dksX0_cover_1 13 rfl rfl)
theorem dX0_cover_37 : decode cX0_cover 37 = .ok (.ifCond .lt 109, 3) := dk_155 0 109 (dk_at dksX0_cover_1 15 rfl rfl)
theorem dX0_cover_40 : decode cX0_cover 40 = .ok (.aload_n 0, 1) := dk_42 (dk_at dksX0_cover_1 18 rfl rfl)
theorem dX0_cover_41 : decode cX0_cover 41 = .ok (.getfield 90, 3) := dk_180 0 90 (dk_at dksX0_cover_1 19 rfl rfl)
theorem dX0_cover_44 : decode cX0_cover 44 = .ok (.iload 4, 2) := dk_21 4 (dk_at dksX0_cover_1 22 rfl rfl)
theorem dX0_cover_46 : decode cX0_cover 46 = .ok (.bipush (-9), 2) := dk_16 247 (dk_at dksX0_cover_2 0 rfl rfl)
theorem dX0_cover_48 : decode cX0_cover 48 = .ok (.iastore, 1) := dk_79 (dk_at dksX0_cover_2 2 rfl rfl)
theorem dX0_cover_49 : decode cX0_cover 49 = .ok (.iconst 0, 1) := dk_3 (dk_at dksX0_cover_2 3 rfl rfl)
theorem dX0_cover_50 : decode cX0_cover 50 = .ok (.istore 5, 2) := dk_54 5 (dk_at dksX0_cover_2 4 rfl rfl)
theorem dX0_cover_52 : decode cX0_cover 52 = .ok (.iload 5, 2) := dk_21 5 (dk_at dksX0_cover_2 6 rfl rfl)
theorem dX0_cover_54 : decode cX0_cover 54 = .ok (.aload_n 0, 1) := dk_42 (dk_at dksX0_cover_2 8 rfl rfl)
theorem dX0_cover_55 : decode cX0_cover 55 = .ok (.getfield 30, 3) := dk_180 0 30 (dk_at dksX0_cover_2 9 rfl rfl)
theorem dX0_cover_58 : decode cX0_cover 58 = .ok (.if_icmp .ge 82, 3) := dk_162 0 82 (dk_at dksX0_cover_2 12 rfl rfl)
theorem dX0_cover_61 : decode cX0_cover 61 = .ok (.aload_n 0, 1) := dk_42 (dk_at dksX0_cover_2 15 rfl rfl)
theorem dX0_cover_62 : decode cX0_cover 62 = .ok (.iload 4, 2) := dk_21 4 (dk_at dksX0_cover_2 16 rfl rfl)
theorem dX0_cover_64 : decode cX0_cover 64 = .ok (.iload 5, 2) := dk_21 5 (dk_at dksX0_cover_2 18 rfl rfl)
theorem dX0_cover_66 : decode cX0_cover 66 = .ok (.invokevirtual 293, 3) := dk_182 1 37 (dk_at dksX0_cover_2 20 rfl rfl)
theorem dX0_cover_69 : decode cX0_cover 69 = .ok (.istore 6, 2) := dk_54 6 (dk_at dksX0_cover_3 0 rfl rfl)
theorem dX0_cover_71 : decode cX0_cover 71 = .ok (.iload 6, 2) := dk_21 6 (dk_at dksX0_cover_3 2 rfl rfl)
theorem dX0_cover_73 : decode cX0_cover 73 = .ok (.iload 4, 2) := dk_21 4 (dk_at dksX0_cover_3 4 rfl rfl)
theorem dX0_cover_75 : decode cX0_cover 75 = .ok (.if_icmp .eq 59, 3) := dk_159 0 59 (dk_at dksX0_cover_3 6 rfl rfl)
theorem dX0_cover_78 : decode cX0_cover 78 = .ok (.aload_n 0, 1) := dk_42 (dk_at dksX0_cover_3 9 rfl rfl)
theorem dX0_cover_79 : decode cX0_cover 79 = .ok (.getfield 90, 3) := dk_180 0 90 (dk_at dksX0_cover_3 10 rfl rfl)
theorem dX0_cover_82 : decode cX0_cover 82 = .ok (.iload 4, 2) := dk_21 4 (dk_at dksX0_cover_3 13 rfl rfl)
theorem dX0_cover_84 : decode cX0_cover 84 = .ok (.iaload, 1) := dk_46 (dk_at dksX0_cover_3 15 rfl rfl)
theorem dX0_cover_85 : decode cX0_cover 85 = .ok (.bipush (-9), 2) := dk_16 247 (dk_at dksX0_cover_3 16 rfl rfl)
theorem dX0_cover_87 : decode cX0_cover 87 = .ok (.if_icmp .eq 22, 3) := dk_159 0 22 (dk_at dksX0_cover_3 18 rfl rfl)
theorem dX0_cover_90 : decode cX0_cover 90 = .ok (.aload_n 0, 1) := dk_42 (dk_at dksX0_cover_3 21 rfl rfl)
theorem dX0_cover_91 : decode cX0_cover 91 = .ok (.getfield 87, 3) := dk_180 0 87 (dk_at dksX0_cover_4 0 rfl rfl)
theorem dX0_cover_94 : decode cX0_cover 94 = .ok (.iload 6, 2) := dk_21 6 (dk_at dksX0_cover_4 3 rfl rfl)
theorem dX0_cover_96 : decode cX0_cover 96 = .ok (.iaload, 1) := dk_46 (dk_at dksX0_cover_4 5 rfl rfl)
theorem dX0_cover_97 : decode cX0_cover 97 = .ok (.iconst 1, 1) := dk_4 (dk_at dksX0_cover_4 6 rfl rfl)
theorem dX0_cover_98 : decode cX0_cover 98 = .ok (.iadd, 1) := dk_96 (dk_at dksX0_cover_4 7 rfl rfl)
theorem dX0_cover_99 : decode cX0_cover 99 = .ok (.aload_n 0, 1) := dk_42 (dk_at dksX0_cover_4 8 rfl rfl)
theorem dX0_cover_100 : decode cX0_cover 100 = .ok (.getfield 87, 3) := dk_180 0 87 (dk_at dksX0_cover_4 9 rfl rfl)
theorem dX0_cover_103 : decode cX0_cover 103 = .ok (.iload 4, 2) := dk_21 4 (dk_at dksX0_cover_4 12 rfl rfl)
theorem dX0_cover_105 : decode cX0_cover 105 = .ok (.iaload, 1) := dk_46 (dk_at dksX0_cover_4 14 rfl rfl)
theorem dX0_cover_106 : decode cX0_cover 106 = .ok (.if_icmp .ge 28, 3) := dk_162 0 28 (dk_at dksX0_cover_4 15 rfl rfl)
theorem dX0_cover_109 : decode cX0_cover 109 = .ok (.aload_n 0, 1) := dk_42 (dk_at dksX0_cover_4 18 rfl rfl)
theorem dX0_cover_110 : decode cX0_cover 110 = .ok (.getfield 87, 3) := dk_180 0 87 (dk_at dksX0_cover_4 19 rfl rfl)
theorem dX0_cover_113 : decode cX0_cover 113 = .ok (.iload 4, 2) := dk_21 4 (dk_at dksX0_cover_4 22 rfl rfl)
theorem dX0_cover_115 : decode cX0_cover 115 = .ok (.aload_n 0, 1) := dk_42 (dk_at dksX0_cover_5 0 rfl rfl)
theorem dX0_cover_116 : decode cX0_cover 116 = .ok (.getfield 87, 3) := dk_180 0 87 (dk_at dksX0_cover_5 1 rfl rfl)
theorem dX0_cover_119 : decode cX0_cover 119 = .ok (.iload 6, 2) := dk_21 6 (dk_at dksX0_cover_5 4 rfl rfl)
theorem dX0_cover_121 : decode cX0_cover 121 = .ok (.iaload, 1) := dk_46 (dk_at dksX0_cover_5 6 rfl rfl)
theorem dX0_cover_122 : decode cX0_cover 122 = .ok (.iconst 1, 1) := dk_4 (dk_at dksX0_cover_5 7 rfl rfl)
theorem dX0_cover_123 : decode cX0_cover 123 = .ok (.iadd, 1) := dk_96 (dk_at dksX0_cover_5 8 rfl rfl)
theorem dX0_cover_124 : decode cX0_cover 124 = .ok (.iastore, 1) := dk_79 (dk_at dksX0_cover_5 9 rfl rfl)
theorem dX0_cover_125 : decode cX0_cover 125 = .ok (.aload_n 0, 1) := dk_42 (dk_at dksX0_cover_5 10 rfl rfl)
theorem dX0_cover_126 : decode cX0_cover 126 = .ok (.getfield 90, 3) := dk_180 0 90 (dk_at dksX0_cover_5 11 rfl rfl)
theorem dX0_cover_129 : decode cX0_cover 129 = .ok (.iload 4, 2) := dk_21 4 (dk_at dksX0_cover_5 14 rfl rfl)
theorem dX0_cover_131 : decode cX0_cover 131 = .ok (.iload 5, 2) := dk_21 5 (dk_at dksX0_cover_5 16 rfl rfl)
theorem dX0_cover_133 : decode cX0_cover 133 = .ok (.iastore, 1) := dk_79 (dk_at dksX0_cover_5 18 rfl rfl)
theorem dX0_cover_134 : decode cX0_cover 134 = .ok (.iinc 5 1, 3) := dk_132 5 1 (dk_at dksX0_cover_5 19 rfl rfl)
theorem dX0_cover_137 : decode cX0_cover 137 = .ok (.goto (-85), 3) := dk_167 255 171 (dk_at dksX0_cover_6 0 rfl rfl)
theorem dX0_cover_140 : decode cX0_cover 140 = .ok (.iinc 4 (-1), 3) := dk_132 4 255 (dk_at dksX0_cover_6 3 rfl rfl)
theorem dX0_cover_143 : decode cX0_cover 143 = .ok (.goto (-108), 3) := dk_167 255 148 (dk_at dksX0_cover_6 6 rfl rfl)
theorem dX0_cover_146 : decode cX0_cover 146 = .ok (.aload_n 0, 1) := dk_42 (dk_at dksX0_cover_6 9 rfl rfl)
theorem dX0_cover_147 : decode cX0_cover 147 = .ok (.getfield 87, 3) := dk_180 0 87 (dk_at dksX0_cover_6 10 rfl rfl)
theorem dX0_cover_150 : decode cX0_cover 150 = .ok (.iconst 0, 1) := dk_3 (dk_at dksX0_cover_6 13 rfl rfl)
theorem dX0_cover_151 : decode cX0_cover 151 = .ok (.iaload, 1) := dk_46 (dk_at dksX0_cover_6 14 rfl rfl)
theorem dX0_cover_152 : decode cX0_cover 152 = .ok (.istore 4, 2) := dk_54 4 (dk_at dksX0_cover_6 15 rfl rfl)
theorem dX0_cover_154 : decode cX0_cover 154 = .ok (.iload 4, 2) := dk_21 4 (dk_at dksX0_cover_6 17 rfl rfl)
theorem dX0_cover_156 : decode cX0_cover 156 = .ok (.bipush 40, 2) := dk_16 40 (dk_at dksX0_cover_6 19 rfl rfl)
theorem dX0_cover_158 : decode cX0_cover 158 = .ok (.invokestatic 153, 3) := dk_184 0 153 (dk_at dksX0_cover_6 21 rfl rfl)
theorem dX0_cover_161 : decode cX0_cover 161 = .ok (.newarray .int, 2) := dk_188_10 (dk_at dksX0_cover_7 0 rfl rfl)
theorem dX0_cover_163 : decode cX0_cover 163 = .ok (.astore 5, 2) := dk_58 5 (dk_at dksX0_cover_7 2 rfl rfl)
theorem dX0_cover_165 : decode cX0_cover 165 = .ok (.iconst 0, 1) := dk_3 (dk_at dksX0_cover_7 4 rfl rfl)
theorem dX0_cover_166 : decode cX0_cover 166 = .ok (.istore 6, 2) := dk_54 6 (dk_at dksX0_cover_7 5 rfl rfl)
theorem dX0_cover_168 : decode cX0_cover 168 = .ok (.iconst 0, 1) := dk_3 (dk_at dksX0_cover_7 7 rfl rfl)
theorem dX0_cover_169 : decode cX0_cover 169 = .ok (.istore 7, 2) := dk_54 7 (dk_at dksX0_cover_7 8 rfl rfl)
theorem dX0_cover_171 : decode cX0_cover 171 = .ok (.iload 7, 2) := dk_21 7 (dk_at dksX0_cover_7 10 rfl rfl)
theorem dX0_cover_173 : decode cX0_cover 173 = .ok (.aload 5, 2) := dk_25 5 (dk_at dksX0_cover_7 12 rfl rfl)
theorem dX0_cover_175 : decode cX0_cover 175 = .ok (.arraylength, 1) := dk_190 (dk_at dksX0_cover_7 14 rfl rfl)
theorem dX0_cover_176 : decode cX0_cover 176 = .ok (.if_icmp .ge 36, 3) := dk_162 0 36 (dk_at dksX0_cover_7 15 rfl rfl)
theorem dX0_cover_179 : decode cX0_cover 179 = .ok (.aload 5, 2) := dk_25 5 (dk_at dksX0_cover_7 18 rfl rfl)
theorem dX0_cover_181 : decode cX0_cover 181 = .ok (.iload 7, 2) := dk_21 7 (dk_at dksX0_cover_7 20 rfl rfl)
theorem dX0_cover_183 : decode cX0_cover 183 = .ok (.aload_n 0, 1) := dk_42 (dk_at dksX0_cover_7 22 rfl rfl)
theorem dX0_cover_184 : decode cX0_cover 184 = .ok (.getfield 90, 3) := dk_180 0 90 (dk_at dksX0_cover_8 0 rfl rfl)
theorem dX0_cover_187 : decode cX0_cover 187 = .ok (.iload 6, 2) := dk_21 6 (dk_at dksX0_cover_8 3 rfl rfl)
theorem dX0_cover_189 : decode cX0_cover 189 = .ok (.iaload, 1) := dk_46 (dk_at dksX0_cover_8 5 rfl rfl)
theorem dX0_cover_190 : decode cX0_cover 190 = .ok (.iastore, 1) := dk_79 (dk_at dksX0_cover_8 6 rfl rfl)
theorem dX0_cover_191 : decode cX0_cover 191 = .ok (.aload_n 0, 1) := dk_42 (dk_at dksX0_cover_8 7 rfl rfl)
theorem dX0_cover_192 : decode cX0_cover 192 = .ok (.iload 6, 2) := dk_21 6 (dk_at dksX0_cover_8 8 rfl rfl)
theorem dX0_cover_194 : decode cX0_cover 194 = .ok (.aload_n 0, 1) := dk_42 (dk_at dksX0_cover_8 10 rfl rfl)
theorem dX0_cover_195 : decode cX0_cover 195 = .ok (.getfield 90, 3) := dk_180 0 90 (dk_at dksX0_cover_8 11 rfl rfl)
theorem dX0_cover_198 : decode cX0_cover 198 = .ok (.iload 6, 2) := dk_21 6 (dk_at dksX0_cover_8 14 rfl rfl)
theorem dX0_cover_200 : decode cX0_cover 200 = .ok (.iaload, 1) := dk_46 (dk_at dksX0_cover_8 16 rfl rfl)
theorem dX0_cover_201 : decode cX0_cover 201 = .ok (.invokevirtual 293, 3) := dk_182 1 37 (dk_at dksX0_cover_8 17 rfl rfl)
theorem dX0_cover_204 : decode cX0_cover 204 = .ok (.istore 6, 2) := dk_54 6 (dk_at dksX0_cover_8 20 rfl rfl)
theorem dX0_cover_206 : decode cX0_cover 206 = .ok (.iinc 7 1, 3) := dk_132 7 1 (dk_at dksX0_cover_9 0 rfl rfl)
theorem dX0_cover_209 : decode cX0_cover 209 = .ok (.goto (-38), 3) := dk_167 255 218 (dk_at dksX0_cover_9 3 rfl rfl)
theorem dX0_cover_212 : decode cX0_cover 212 = .ok (.aload_n 0, 1) := dk_42 (dk_at dksX0_cover_9 6 rfl rfl)
theorem dX0_cover_213 : decode cX0_cover 213 = .ok (.getfield 34, 3) := dk_180 0 34 (dk_at dksX0_cover_9 7 rfl rfl)
theorem dX0_cover_216 : decode cX0_cover 216 = .ok (.iload_n 2, 1) := dk_28 (dk_at dksX0_cover_9 10 rfl rfl)
theorem dX0_cover_217 : decode cX0_cover 217 = .ok (.aload 5, 2) := dk_25 5 (dk_at dksX0_cover_9 11 rfl rfl)
theorem dX0_cover_219 : decode cX0_cover 219 = .ok (.aastore, 1) := dk_83 (dk_at dksX0_cover_9 13 rfl rfl)
theorem dX0_cover_220 : decode cX0_cover 220 = .ok (.iload 4, 2) := dk_21 4 (dk_at dksX0_cover_9 14 rfl rfl)
theorem dX0_cover_222 : decode cX0_cover 222 = .ok (.ireturn, 1) := dk_172 (dk_at dksX0_cover_9 16 rfl rfl)
abbrev cX0_someGo : ByteArray := prog_1_method_66_code
def yX0_someGo : MethodName := ⟨RX0, "someGo", "(II)I"⟩
def dkwX0_someGo_3 : List UInt8 := [132, 4, 1, 167, 255, 186, 29, 172]
abbrev dktX0_someGo_3 : List UInt8 := dkwX0_someGo_3 ++ []
def dkwX0_someGo_2 : List UInt8 := [46, 182, 0, 188, 21, 5, 51, 28, 160, 0, 13, 42, 180, 0, 81, 21, 4, 46, 167, 0, 4, 3, 96, 62]
abbrev dktX0_someGo_2 : List UInt8 := dkwX0_someGo_2 ++ dktX0_someGo_3
def dkwX0_someGo_1 : List UInt8 := [21, 5, 42, 42, 180, 0, 78, 21, 4, 46, 182, 0, 188, 190, 162, 0, 31, 42, 42, 180, 0, 78, 21, 4]
abbrev dktX0_someGo_1 : List UInt8 := dkwX0_someGo_1 ++ dktX0_someGo_2
def dkwX0_someGo_0 : List UInt8 := [27, 62, 3, 54, 4, 21, 4, 42, 180, 1, 25, 162, 0, 67, 42, 27, 21, 4, 182, 1, 28, 54, 5, 29]
abbrev dktX0_someGo_0 : List UInt8 := dkwX0_someGo_0 ++ dktX0_someGo_1
theorem dksX0_someGo_0 : cX0_someGo.data.toList.drop 0 = dktX0_someGo_0 := by decide +kernel
theorem dksX0_someGo_1 : cX0_someGo.data.toList.drop 24 = dktX0_someGo_1 := dk_seg dksX0_someGo_0 24 rfl rfl
theorem dksX0_someGo_2 : cX0_someGo.data.toList.drop 48 = dktX0_someGo_2 := dk_seg dksX0_someGo_1 24 rfl rfl
theorem dksX0_someGo_3 : cX0_someGo.data.toList.drop 72 = dktX0_someGo_3 := dk_seg dksX0_someGo_2 24 rfl rfl
theorem dX0_someGo_0 : decode cX0_someGo 0 = .ok (.iload_n 1, 1) := dk_27 (dk_at dksX0_someGo_0 0 rfl rfl)
theorem dX0_someGo_1 : decode cX0_someGo 1 = .ok (.istore_n 3, 1) := dk_62 (dk_at dksX0_someGo_0 1 rfl rfl)
theorem dX0_someGo_2 : decode cX0_someGo 2 = .ok (.iconst 0, 1) := dk_3 (dk_at dksX0_someGo_0 2 rfl rfl)
theorem dX0_someGo_3 : decode cX0_someGo 3 = .ok (.istore 4, 2) := dk_54 4 (dk_at dksX0_someGo_0 3 rfl rfl)
theorem dX0_someGo_5 : decode cX0_someGo 5 = .ok (.iload 4, 2) := dk_21 4 (dk_at dksX0_someGo_0 5 rfl rfl)
theorem dX0_someGo_7 : decode cX0_someGo 7 = .ok (.aload_n 0, 1) := dk_42 (dk_at dksX0_someGo_0 7 rfl rfl)
theorem dX0_someGo_8 : decode cX0_someGo 8 = .ok (.getfield 281, 3) := dk_180 1 25 (dk_at dksX0_someGo_0 8 rfl rfl)
theorem dX0_someGo_11 : decode cX0_someGo 11 = .ok (.if_icmp .ge 67, 3) := dk_162 0 67 (dk_at dksX0_someGo_0 11 rfl rfl)
theorem dX0_someGo_14 : decode cX0_someGo 14 = .ok (.aload_n 0, 1) := dk_42 (dk_at dksX0_someGo_0 14 rfl rfl)
theorem dX0_someGo_15 : decode cX0_someGo 15 = .ok (.iload_n 1, 1) := dk_27 (dk_at dksX0_someGo_0 15 rfl rfl)
theorem dX0_someGo_16 : decode cX0_someGo 16 = .ok (.iload 4, 2) := dk_21 4 (dk_at dksX0_someGo_0 16 rfl rfl)
theorem dX0_someGo_18 : decode cX0_someGo 18 = .ok (.invokevirtual 284, 3) := dk_182 1 28 (dk_at dksX0_someGo_0 18 rfl rfl)
theorem dX0_someGo_21 : decode cX0_someGo 21 = .ok (.istore 5, 2) := dk_54 5 (dk_at dksX0_someGo_0 21 rfl rfl)
theorem dX0_someGo_23 : decode cX0_someGo 23 = .ok (.iload_n 3, 1) := dk_29 (dk_at dksX0_someGo_0 23 rfl rfl)
theorem dX0_someGo_24 : decode cX0_someGo 24 = .ok (.iload 5, 2) := dk_21 5 (dk_at dksX0_someGo_1 0 rfl rfl)
theorem dX0_someGo_26 : decode cX0_someGo 26 = .ok (.aload_n 0, 1) := dk_42 (dk_at dksX0_someGo_1 2 rfl rfl)
theorem dX0_someGo_27 : decode cX0_someGo 27 = .ok (.aload_n 0, 1) := dk_42 (dk_at dksX0_someGo_1 3 rfl rfl)
theorem dX0_someGo_28 : decode cX0_someGo 28 = .ok (.getfield 78, 3) := dk_180 0 78 (dk_at dksX0_someGo_1 4 rfl rfl)
theorem dX0_someGo_31 : decode cX0_someGo 31 = .ok (.iload 4, 2) := dk_21 4 (dk_at dksX0_someGo_1 7 rfl rfl)
theorem dX0_someGo_33 : decode cX0_someGo 33 = .ok (.iaload, 1) := dk_46 (dk_at dksX0_someGo_1 9 rfl rfl)
theorem dX0_someGo_34 : decode cX0_someGo 34 = .ok (.invokevirtual 188, 3) := dk_182 0 188 (dk_at dksX0_someGo_1 10 rfl rfl)
theorem dX0_someGo_37 : decode cX0_someGo 37 = .ok (.arraylength, 1) := dk_190 (dk_at dksX0_someGo_1 13 rfl rfl)
theorem dX0_someGo_38 : decode cX0_someGo 38 = .ok (.if_icmp .ge 31, 3) := dk_162 0 31 (dk_at dksX0_someGo_1 14 rfl rfl)
theorem dX0_someGo_41 : decode cX0_someGo 41 = .ok (.aload_n 0, 1) := dk_42 (dk_at dksX0_someGo_1 17 rfl rfl)
theorem dX0_someGo_42 : decode cX0_someGo 42 = .ok (.aload_n 0, 1) := dk_42 (dk_at dksX0_someGo_1 18 rfl rfl)
theorem dX0_someGo_43 : decode cX0_someGo 43 = .ok (.getfield 78, 3) := dk_180 0 78 (dk_at dksX0_someGo_1 19 rfl rfl)
theorem dX0_someGo_46 : decode cX0_someGo 46 = .ok (.iload 4, 2) := dk_21 4 (dk_at dksX0_someGo_1 22 rfl rfl)
theorem dX0_someGo_48 : decode cX0_someGo 48 = .ok (.iaload, 1) := dk_46 (dk_at dksX0_someGo_2 0 rfl rfl)
theorem dX0_someGo_49 : decode cX0_someGo 49 = .ok (.invokevirtual 188, 3) := dk_182 0 188 (dk_at dksX0_someGo_2 1 rfl rfl)
theorem dX0_someGo_52 : decode cX0_someGo 52 = .ok (.iload 5, 2) := dk_21 5 (dk_at dksX0_someGo_2 4 rfl rfl)
theorem dX0_someGo_54 : decode cX0_someGo 54 = .ok (.baload, 1) := dk_51 (dk_at dksX0_someGo_2 6 rfl rfl)
theorem dX0_someGo_55 : decode cX0_someGo 55 = .ok (.iload_n 2, 1) := dk_28 (dk_at dksX0_someGo_2 7 rfl rfl)
theorem dX0_someGo_56 : decode cX0_someGo 56 = .ok (.if_icmp .ne 13, 3) := dk_160 0 13 (dk_at dksX0_someGo_2 8 rfl rfl)
theorem dX0_someGo_59 : decode cX0_someGo 59 = .ok (.aload_n 0, 1) := dk_42 (dk_at dksX0_someGo_2 11 rfl rfl)
theorem dX0_someGo_60 : decode cX0_someGo 60 = .ok (.getfield 81, 3) := dk_180 0 81 (dk_at dksX0_someGo_2 12 rfl rfl)
theorem dX0_someGo_63 : decode cX0_someGo 63 = .ok (.iload 4, 2) := dk_21 4 (dk_at dksX0_someGo_2 15 rfl rfl)
theorem dX0_someGo_65 : decode cX0_someGo 65 = .ok (.iaload, 1) := dk_46 (dk_at dksX0_someGo_2 17 rfl rfl)
theorem dX0_someGo_66 : decode cX0_someGo 66 = .ok (.goto 4, 3) := dk_167 0 4 (dk_at dksX0_someGo_2 18 rfl rfl)
theorem dX0_someGo_69 : decode cX0_someGo 69 = .ok (.iconst 0, 1) := dk_3 (dk_at dksX0_someGo_2 21 rfl rfl)
theorem dX0_someGo_70 : decode cX0_someGo 70 = .ok (.iadd, 1) := dk_96 (dk_at dksX0_someGo_2 22 rfl rfl)
theorem dX0_someGo_71 : decode cX0_someGo 71 = .ok (.istore_n 3, 1) := dk_62 (dk_at dksX0_someGo_2 23 rfl rfl)
theorem dX0_someGo_72 : decode cX0_someGo 72 = .ok (.iinc 4 1, 3) := dk_132 4 1 (dk_at dksX0_someGo_3 0 rfl rfl)
theorem dX0_someGo_75 : decode cX0_someGo 75 = .ok (.goto (-70), 3) := dk_167 255 186 (dk_at dksX0_someGo_3 3 rfl rfl)
theorem dX0_someGo_78 : decode cX0_someGo 78 = .ok (.iload_n 3, 1) := dk_29 (dk_at dksX0_someGo_3 6 rfl rfl)
theorem dX0_someGo_79 : decode cX0_someGo 79 = .ok (.ireturn, 1) := dk_172 (dk_at dksX0_someGo_3 7 rfl rfl)
abbrev cX0_both : ByteArray := prog_1_method_69_code
def yX0_both : MethodName := ⟨RX0, "both", "(II)I"⟩
def dkwX0_both_8 : List UInt8 := [132, 7, 255, 167, 255, 150, 132, 6, 255, 167, 255, 131, 42, 25, 5, 3, 47, 4, 182, 0, 231, 172]
abbrev dktX0_both_8 : List UInt8 := dkwX0_both_8 ++ []
def dkwX0_both_7 : List UInt8 := [47, 97, 55, 8, 132, 10, 1, 167, 255, 180, 25, 5, 21, 4, 21, 6, 104, 21, 7, 96, 22, 8, 80]
abbrev dktX0_both_7 : List UInt8 := dkwX0_both_7 ++ dktX0_both_8
def dkwX0_both_6 : List UInt8 := [159, 0, 10, 21, 12, 16, 247, 160, 0, 7, 9, 167, 0, 14, 25, 5, 21, 4, 21, 11, 104, 21, 12, 96]
abbrev dktX0_both_6 : List UInt8 := dkwX0_both_6 ++ dktX0_both_7
def dkwX0_both_5 : List UInt8 := [54, 11, 42, 180, 0, 56, 16, 6, 21, 7, 104, 21, 10, 96, 46, 54, 12, 22, 8, 21, 11, 16, 247]
abbrev dktX0_both_5 : List UInt8 := dkwX0_both_5 ++ dktX0_both_6
def dkwX0_both_4 : List UInt8 := [54, 10, 21, 10, 42, 180, 0, 30, 162, 0, 73, 42, 180, 0, 53, 16, 6, 21, 6, 104, 21, 10, 96, 46]
abbrev dktX0_both_4 : List UInt8 := dkwX0_both_4 ++ dktX0_both_5
def dkwX0_both_3 : List UInt8 := [54, 6, 21, 6, 155, 0, 126, 42, 28, 182, 0, 188, 190, 54, 7, 21, 7, 155, 0, 107, 10, 55, 8, 3]
abbrev dktX0_both_3 : List UInt8 := dkwX0_both_3 ++ dktX0_both_4
def dkwX0_both_2 : List UInt8 := [54, 4, 42, 27, 182, 0, 188, 190, 4, 96, 21, 4, 104, 188, 11, 58, 5, 42, 27, 182, 0, 188, 190]
abbrev dktX0_both_2 : List UInt8 := dkwX0_both_2 ++ dktX0_both_3
def dkwX0_both_1 : List UInt8 := [184, 0, 249, 42, 28, 182, 0, 188, 42, 180, 0, 56, 184, 0, 249, 42, 28, 182, 0, 188, 190, 4, 96]
abbrev dktX0_both_1 : List UInt8 := dkwX0_both_1 ++ dktX0_both_2
def dkwX0_both_0 : List UInt8 := [42, 27, 28, 182, 0, 185, 62, 29, 156, 0, 5, 29, 172, 42, 27, 182, 0, 188, 42, 180, 0, 53]
abbrev dktX0_both_0 : List UInt8 := dkwX0_both_0 ++ dktX0_both_1
theorem dksX0_both_0 : cX0_both.data.toList.drop 0 = dktX0_both_0 := by decide +kernel
theorem dksX0_both_1 : cX0_both.data.toList.drop 22 = dktX0_both_1 := dk_seg dksX0_both_0 22 rfl rfl
theorem dksX0_both_2 : cX0_both.data.toList.drop 45 = dktX0_both_2 := dk_seg dksX0_both_1 23 rfl rfl
theorem dksX0_both_3 : cX0_both.data.toList.drop 68 = dktX0_both_3 := dk_seg dksX0_both_2 23 rfl rfl
theorem dksX0_both_4 : cX0_both.data.toList.drop 92 = dktX0_both_4 := dk_seg dksX0_both_3 24 rfl rfl
theorem dksX0_both_5 : cX0_both.data.toList.drop 116 = dktX0_both_5 := dk_seg dksX0_both_4 24 rfl rfl
theorem dksX0_both_6 : cX0_both.data.toList.drop 139 = dktX0_both_6 := dk_seg dksX0_both_5 23 rfl rfl
theorem dksX0_both_7 : cX0_both.data.toList.drop 163 = dktX0_both_7 := dk_seg dksX0_both_6 24 rfl rfl
theorem dksX0_both_8 : cX0_both.data.toList.drop 186 = dktX0_both_8 := dk_seg dksX0_both_7 23 rfl rfl
theorem dX0_both_0 : decode cX0_both 0 = .ok (.aload_n 0, 1) := dk_42 (dk_at dksX0_both_0 0 rfl rfl)
theorem dX0_both_1 : decode cX0_both 1 = .ok (.iload_n 1, 1) := dk_27 (dk_at dksX0_both_0 1 rfl rfl)
theorem dX0_both_2 : decode cX0_both 2 = .ok (.iload_n 2, 1) := dk_28 (dk_at dksX0_both_0 2 rfl rfl)
theorem dX0_both_3 : decode cX0_both 3 = .ok (.invokevirtual 185, 3) := dk_182 0 185 (dk_at dksX0_both_0 3 rfl rfl)
theorem dX0_both_6 : decode cX0_both 6 = .ok (.istore_n 3, 1) := dk_62 (dk_at dksX0_both_0 6 rfl rfl)
theorem dX0_both_7 : decode cX0_both 7 = .ok (.iload_n 3, 1) := dk_29 (dk_at dksX0_both_0 7 rfl rfl)
theorem dX0_both_8 : decode cX0_both 8 = .ok (.ifCond .ge 5, 3) := dk_156 0 5 (dk_at dksX0_both_0 8 rfl rfl)
theorem dX0_both_11 : decode cX0_both 11 = .ok (.iload_n 3, 1) := dk_29 (dk_at dksX0_both_0 11 rfl rfl)
theorem dX0_both_12 : decode cX0_both 12 = .ok (.ireturn, 1) := dk_172 (dk_at dksX0_both_0 12 rfl rfl)
theorem dX0_both_13 : decode cX0_both 13 = .ok (.aload_n 0, 1) := dk_42 (dk_at dksX0_both_0 13 rfl rfl)
theorem dX0_both_14 : decode cX0_both 14 = .ok (.iload_n 1, 1) := dk_27 (dk_at dksX0_both_0 14 rfl rfl)
theorem dX0_both_15 : decode cX0_both 15 = .ok (.invokevirtual 188, 3) := dk_182 0 188 (dk_at dksX0_both_0 15 rfl rfl)
theorem dX0_both_18 : decode cX0_both 18 = .ok (.aload_n 0, 1) := dk_42 (dk_at dksX0_both_0 18 rfl rfl)
theorem dX0_both_19 : decode cX0_both 19 = .ok (.getfield 53, 3) := dk_180 0 53 (dk_at dksX0_both_0 19 rfl rfl)
theorem dX0_both_22 : decode cX0_both 22 = .ok (.invokestatic 249, 3) := dk_184 0 249 (dk_at dksX0_both_1 0 rfl rfl)
theorem dX0_both_25 : decode cX0_both 25 = .ok (.aload_n 0, 1) := dk_42 (dk_at dksX0_both_1 3 rfl rfl)
theorem dX0_both_26 : decode cX0_both 26 = .ok (.iload_n 2, 1) := dk_28 (dk_at dksX0_both_1 4 rfl rfl)
theorem dX0_both_27 : decode cX0_both 27 = .ok (.invokevirtual 188, 3) := dk_182 0 188 (dk_at dksX0_both_1 5 rfl rfl)
theorem dX0_both_30 : decode cX0_both 30 = .ok (.aload_n 0, 1) := dk_42 (dk_at dksX0_both_1 8 rfl rfl)
theorem dX0_both_31 : decode cX0_both 31 = .ok (.getfield 56, 3) := dk_180 0 56 (dk_at dksX0_both_1 9 rfl rfl)
theorem dX0_both_34 : decode cX0_both 34 = .ok (.invokestatic 249, 3) := dk_184 0 249 (dk_at dksX0_both_1 12 rfl rfl)
theorem dX0_both_37 : decode cX0_both 37 = .ok (.aload_n 0, 1) := dk_42 (dk_at dksX0_both_1 15 rfl rfl)
theorem dX0_both_38 : decode cX0_both 38 = .ok (.iload_n 2, 1) := dk_28 (dk_at dksX0_both_1 16 rfl rfl)
theorem dX0_both_39 : decode cX0_both 39 = .ok (.invokevirtual 188, 3) := dk_182 0 188 (dk_at dksX0_both_1 17 rfl rfl)
theorem dX0_both_42 : decode cX0_both 42 = .ok (.arraylength, 1) := dk_190 (dk_at dksX0_both_1 20 rfl rfl)
theorem dX0_both_43 : decode cX0_both 43 = .ok (.iconst 1, 1) := dk_4 (dk_at dksX0_both_1 21 rfl rfl)
theorem dX0_both_44 : decode cX0_both 44 = .ok (.iadd, 1) := dk_96 (dk_at dksX0_both_1 22 rfl rfl)
theorem dX0_both_45 : decode cX0_both 45 = .ok (.istore 4, 2) := dk_54 4 (dk_at dksX0_both_2 0 rfl rfl)
theorem dX0_both_47 : decode cX0_both 47 = .ok (.aload_n 0, 1) := dk_42 (dk_at dksX0_both_2 2 rfl rfl)
theorem dX0_both_48 : decode cX0_both 48 = .ok (.iload_n 1, 1) := dk_27 (dk_at dksX0_both_2 3 rfl rfl)
theorem dX0_both_49 : decode cX0_both 49 = .ok (.invokevirtual 188, 3) := dk_182 0 188 (dk_at dksX0_both_2 4 rfl rfl)
theorem dX0_both_52 : decode cX0_both 52 = .ok (.arraylength, 1) := dk_190 (dk_at dksX0_both_2 7 rfl rfl)
theorem dX0_both_53 : decode cX0_both 53 = .ok (.iconst 1, 1) := dk_4 (dk_at dksX0_both_2 8 rfl rfl)
theorem dX0_both_54 : decode cX0_both 54 = .ok (.iadd, 1) := dk_96 (dk_at dksX0_both_2 9 rfl rfl)
theorem dX0_both_55 : decode cX0_both 55 = .ok (.iload 4, 2) := dk_21 4 (dk_at dksX0_both_2 10 rfl rfl)
theorem dX0_both_57 : decode cX0_both 57 = .ok (.imul, 1) := dk_104 (dk_at dksX0_both_2 12 rfl rfl)
theorem dX0_both_58 : decode cX0_both 58 = .ok (.newarray .long, 2) := dk_188_11 (dk_at dksX0_both_2 13 rfl rfl)
theorem dX0_both_60 : decode cX0_both 60 = .ok (.astore 5, 2) := dk_58 5 (dk_at dksX0_both_2 15 rfl rfl)
theorem dX0_both_62 : decode cX0_both 62 = .ok (.aload_n 0, 1) := dk_42 (dk_at dksX0_both_2 17 rfl rfl)
theorem dX0_both_63 : decode cX0_both 63 = .ok (.iload_n 1, 1) := dk_27 (dk_at dksX0_both_2 18 rfl rfl)
theorem dX0_both_64 : decode cX0_both 64 = .ok (.invokevirtual 188, 3) := dk_182 0 188 (dk_at dksX0_both_2 19 rfl rfl)
theorem dX0_both_67 : decode cX0_both 67 = .ok (.arraylength, 1) := dk_190 (dk_at dksX0_both_2 22 rfl rfl)
theorem dX0_both_68 : decode cX0_both 68 = .ok (.istore 6, 2) := dk_54 6 (dk_at dksX0_both_3 0 rfl rfl)
theorem dX0_both_70 : decode cX0_both 70 = .ok (.iload 6, 2) := dk_21 6 (dk_at dksX0_both_3 2 rfl rfl)
theorem dX0_both_72 : decode cX0_both 72 = .ok (.ifCond .lt 126, 3) := dk_155 0 126 (dk_at dksX0_both_3 4 rfl rfl)
theorem dX0_both_75 : decode cX0_both 75 = .ok (.aload_n 0, 1) := dk_42 (dk_at dksX0_both_3 7 rfl rfl)
theorem dX0_both_76 : decode cX0_both 76 = .ok (.iload_n 2, 1) := dk_28 (dk_at dksX0_both_3 8 rfl rfl)
theorem dX0_both_77 : decode cX0_both 77 = .ok (.invokevirtual 188, 3) := dk_182 0 188 (dk_at dksX0_both_3 9 rfl rfl)
theorem dX0_both_80 : decode cX0_both 80 = .ok (.arraylength, 1) := dk_190 (dk_at dksX0_both_3 12 rfl rfl)
theorem dX0_both_81 : decode cX0_both 81 = .ok (.istore 7, 2) := dk_54 7 (dk_at dksX0_both_3 13 rfl rfl)
theorem dX0_both_83 : decode cX0_both 83 = .ok (.iload 7, 2) := dk_21 7 (dk_at dksX0_both_3 15 rfl rfl)
theorem dX0_both_85 : decode cX0_both 85 = .ok (.ifCond .lt 107, 3) := dk_155 0 107 (dk_at dksX0_both_3 17 rfl rfl)
theorem dX0_both_88 : decode cX0_both 88 = .ok (.lconst 1, 1) := dk_10 (dk_at dksX0_both_3 20 rfl rfl)
theorem dX0_both_89 : decode cX0_both 89 = .ok (.lstore 8, 2) := dk_55 8 (dk_at dksX0_both_3 21 rfl rfl)
theorem dX0_both_91 : decode cX0_both 91 = .ok (.iconst 0, 1) := dk_3 (dk_at dksX0_both_3 23 rfl rfl)
theorem dX0_both_92 : decode cX0_both 92 = .ok (.istore 10, 2) := dk_54 10 (dk_at dksX0_both_4 0 rfl rfl)
theorem dX0_both_94 : decode cX0_both 94 = .ok (.iload 10, 2) := dk_21 10 (dk_at dksX0_both_4 2 rfl rfl)
theorem dX0_both_96 : decode cX0_both 96 = .ok (.aload_n 0, 1) := dk_42 (dk_at dksX0_both_4 4 rfl rfl)
theorem dX0_both_97 : decode cX0_both 97 = .ok (.getfield 30, 3) := dk_180 0 30 (dk_at dksX0_both_4 5 rfl rfl)
theorem dX0_both_100 : decode cX0_both 100 = .ok (.if_icmp .ge 73, 3) := dk_162 0 73 (dk_at dksX0_both_4 8 rfl rfl)
theorem dX0_both_103 : decode cX0_both 103 = .ok (.aload_n 0, 1) := dk_42 (dk_at dksX0_both_4 11 rfl rfl)
theorem dX0_both_104 : decode cX0_both 104 = .ok (.getfield 53, 3) := dk_180 0 53 (dk_at dksX0_both_4 12 rfl rfl)
theorem dX0_both_107 : decode cX0_both 107 = .ok (.bipush 6, 2) := dk_16 6 (dk_at dksX0_both_4 15 rfl rfl)
theorem dX0_both_109 : decode cX0_both 109 = .ok (.iload 6, 2) := dk_21 6 (dk_at dksX0_both_4 17 rfl rfl)
theorem dX0_both_111 : decode cX0_both 111 = .ok (.imul, 1) := dk_104 (dk_at dksX0_both_4 19 rfl rfl)
theorem dX0_both_112 : decode cX0_both 112 = .ok (.iload 10, 2) := dk_21 10 (dk_at dksX0_both_4 20 rfl rfl)
theorem dX0_both_114 : decode cX0_both 114 = .ok (.iadd, 1) := dk_96 (dk_at dksX0_both_4 22 rfl rfl)
theorem dX0_both_115 : decode cX0_both 115 = .ok (.iaload, 1) := dk_46 (dk_at dksX0_both_4 23 rfl rfl)
theorem dX0_both_116 : decode cX0_both 116 = .ok (.istore 11, 2) := dk_54 11 (dk_at dksX0_both_5 0 rfl rfl)
theorem dX0_both_118 : decode cX0_both 118 = .ok (.aload_n 0, 1) := dk_42 (dk_at dksX0_both_5 2 rfl rfl)
theorem dX0_both_119 : decode cX0_both 119 = .ok (.getfield 56, 3) := dk_180 0 56 (dk_at dksX0_both_5 3 rfl rfl)
theorem dX0_both_122 : decode cX0_both 122 = .ok (.bipush 6, 2) := dk_16 6 (dk_at dksX0_both_5 6 rfl rfl)
theorem dX0_both_124 : decode cX0_both 124 = .ok (.iload 7, 2) := dk_21 7 (dk_at dksX0_both_5 8 rfl rfl)
theorem dX0_both_126 : decode cX0_both 126 = .ok (.imul, 1) := dk_104 (dk_at dksX0_both_5 10 rfl rfl)
theorem dX0_both_127 : decode cX0_both 127 = .ok (.iload 10, 2) := dk_21 10 (dk_at dksX0_both_5 11 rfl rfl)
theorem dX0_both_129 : decode cX0_both 129 = .ok (.iadd, 1) := dk_96 (dk_at dksX0_both_5 13 rfl rfl)
theorem dX0_both_130 : decode cX0_both 130 = .ok (.iaload, 1) := dk_46 (dk_at dksX0_both_5 14 rfl rfl)
theorem dX0_both_131 : decode cX0_both 131 = .ok (.istore 12, 2) := dk_54 12 (dk_at dksX0_both_5 15 rfl rfl)
theorem dX0_both_133 : decode cX0_both 133 = .ok (.lload 8, 2) := dk_22 8 (dk_at dksX0_both_5 17 rfl rfl)
theorem dX0_both_135 : decode cX0_both 135 = .ok (.iload 11, 2) := dk_21 11 (dk_at dksX0_both_5 19 rfl rfl)
theorem dX0_both_137 : decode cX0_both 137 = .ok (.bipush (-9), 2) := dk_16 247 (dk_at dksX0_both_5 21 rfl rfl)
theorem dX0_both_139 : decode cX0_both 139 = .ok (.if_icmp .eq 10, 3) := dk_159 0 10 (dk_at dksX0_both_6 0 rfl rfl)
theorem dX0_both_142 : decode cX0_both 142 = .ok (.iload 12, 2) := dk_21 12 (dk_at dksX0_both_6 3 rfl rfl)
theorem dX0_both_144 : decode cX0_both 144 = .ok (.bipush (-9), 2) := dk_16 247 (dk_at dksX0_both_6 5 rfl rfl)
theorem dX0_both_146 : decode cX0_both 146 = .ok (.if_icmp .ne 7, 3) := dk_160 0 7 (dk_at dksX0_both_6 7 rfl rfl)
theorem dX0_both_149 : decode cX0_both 149 = .ok (.lconst 0, 1) := dk_9 (dk_at dksX0_both_6 10 rfl rfl)
theorem dX0_both_150 : decode cX0_both 150 = .ok (.goto 14, 3) := dk_167 0 14 (dk_at dksX0_both_6 11 rfl rfl)
theorem dX0_both_153 : decode cX0_both 153 = .ok (.aload 5, 2) := dk_25 5 (dk_at dksX0_both_6 14 rfl rfl)
theorem dX0_both_155 : decode cX0_both 155 = .ok (.iload 4, 2) := dk_21 4 (dk_at dksX0_both_6 16 rfl rfl)
theorem dX0_both_157 : decode cX0_both 157 = .ok (.iload 11, 2) := dk_21 11 (dk_at dksX0_both_6 18 rfl rfl)
theorem dX0_both_159 : decode cX0_both 159 = .ok (.imul, 1) := dk_104 (dk_at dksX0_both_6 20 rfl rfl)
theorem dX0_both_160 : decode cX0_both 160 = .ok (.iload 12, 2) := dk_21 12 (dk_at dksX0_both_6 21 rfl rfl)
theorem dX0_both_162 : decode cX0_both 162 = .ok (.iadd, 1) := dk_96 (dk_at dksX0_both_6 23 rfl rfl)
theorem dX0_both_163 : decode cX0_both 163 = .ok (.laload, 1) := dk_47 (dk_at dksX0_both_7 0 rfl rfl)
theorem dX0_both_164 : decode cX0_both 164 = .ok (.ladd, 1) := dk_97 (dk_at dksX0_both_7 1 rfl rfl)
theorem dX0_both_165 : decode cX0_both 165 = .ok (.lstore 8, 2) := dk_55 8 (dk_at dksX0_both_7 2 rfl rfl)
theorem dX0_both_167 : decode cX0_both 167 = .ok (.iinc 10 1, 3) := dk_132 10 1 (dk_at dksX0_both_7 4 rfl rfl)
theorem dX0_both_170 : decode cX0_both 170 = .ok (.goto (-76), 3) := dk_167 255 180 (dk_at dksX0_both_7 7 rfl rfl)
theorem dX0_both_173 : decode cX0_both 173 = .ok (.aload 5, 2) := dk_25 5 (dk_at dksX0_both_7 10 rfl rfl)
theorem dX0_both_175 : decode cX0_both 175 = .ok (.iload 4, 2) := dk_21 4 (dk_at dksX0_both_7 12 rfl rfl)
theorem dX0_both_177 : decode cX0_both 177 = .ok (.iload 6, 2) := dk_21 6 (dk_at dksX0_both_7 14 rfl rfl)
theorem dX0_both_179 : decode cX0_both 179 = .ok (.imul, 1) := dk_104 (dk_at dksX0_both_7 16 rfl rfl)
theorem dX0_both_180 : decode cX0_both 180 = .ok (.iload 7, 2) := dk_21 7 (dk_at dksX0_both_7 17 rfl rfl)
theorem dX0_both_182 : decode cX0_both 182 = .ok (.iadd, 1) := dk_96 (dk_at dksX0_both_7 19 rfl rfl)
theorem dX0_both_183 : decode cX0_both 183 = .ok (.lload 8, 2) := dk_22 8 (dk_at dksX0_both_7 20 rfl rfl)
theorem dX0_both_185 : decode cX0_both 185 = .ok (.lastore, 1) := dk_80 (dk_at dksX0_both_7 22 rfl rfl)
theorem dX0_both_186 : decode cX0_both 186 = .ok (.iinc 7 (-1), 3) := dk_132 7 255 (dk_at dksX0_both_8 0 rfl rfl)
theorem dX0_both_189 : decode cX0_both 189 = .ok (.goto (-106), 3) := dk_167 255 150 (dk_at dksX0_both_8 3 rfl rfl)
theorem dX0_both_192 : decode cX0_both 192 = .ok (.iinc 6 (-1), 3) := dk_132 6 255 (dk_at dksX0_both_8 6 rfl rfl)
theorem dX0_both_195 : decode cX0_both 195 = .ok (.goto (-125), 3) := dk_167 255 131 (dk_at dksX0_both_8 9 rfl rfl)
theorem dX0_both_198 : decode cX0_both 198 = .ok (.aload_n 0, 1) := dk_42 (dk_at dksX0_both_8 12 rfl rfl)
theorem dX0_both_199 : decode cX0_both 199 = .ok (.aload 5, 2) := dk_25 5 (dk_at dksX0_both_8 13 rfl rfl)
theorem dX0_both_201 : decode cX0_both 201 = .ok (.iconst 0, 1) := dk_3 (dk_at dksX0_both_8 15 rfl rfl)
theorem dX0_both_202 : decode cX0_both 202 = .ok (.laload, 1) := dk_47 (dk_at dksX0_both_8 16 rfl rfl)
theorem dX0_both_203 : decode cX0_both 203 = .ok (.iconst 1, 1) := dk_4 (dk_at dksX0_both_8 17 rfl rfl)
theorem dX0_both_204 : decode cX0_both 204 = .ok (.invokevirtual 231, 3) := dk_182 0 231 (dk_at dksX0_both_8 18 rfl rfl)
theorem dX0_both_207 : decode cX0_both 207 = .ok (.ireturn, 1) := dk_172 (dk_at dksX0_both_8 21 rfl rfl)
abbrev cX0_twins : ByteArray := prog_1_method_72_code
def yX0_twins : MethodName := ⟨RX0, "twins", "(III)I"⟩
def dkwX0_twins_12 : List UInt8 := [21, 11, 172]
abbrev dktX0_twins_12 : List UInt8 := dkwX0_twins_12 ++ []
def dkwX0_twins_11 : List UInt8 := [162, 0, 23, 42, 180, 0, 34, 29, 50, 21, 13, 25, 10, 21, 13, 51, 79, 132, 13, 1, 167, 255, 232]
abbrev dktX0_twins_11 : List UInt8 := dkwX0_twins_11 ++ dktX0_twins_12
def dkwX0_twins_10 : List UInt8 := [25, 10, 182, 1, 43, 42, 180, 0, 34, 29, 21, 5, 188, 10, 83, 3, 54, 13, 21, 13, 21, 5]
abbrev dktX0_twins_10 : List UInt8 := dkwX0_twins_10 ++ dktX0_twins_11
def dkwX0_twins_9 : List UInt8 := [154, 0, 8, 21, 13, 167, 0, 5, 21, 12, 54, 12, 132, 11, 1, 132, 13, 1, 167, 255, 161, 42, 21, 12]
abbrev dktX0_twins_9 : List UInt8 := dkwX0_twins_9 ++ dktX0_twins_10
def dkwX0_twins_8 : List UInt8 := [154, 0, 7, 4, 167, 0, 4, 3, 54, 14, 132, 15, 1, 167, 255, 210, 21, 14, 153, 0, 20, 21, 11]
abbrev dktX0_twins_8 : List UInt8 := dkwX0_twins_8 ++ dktX0_twins_9
def dkwX0_twins_7 : List UInt8 := [153, 0, 40, 42, 21, 15, 25, 9, 182, 1, 43, 25, 10, 25, 9, 184, 1, 47, 25, 8, 21, 15, 47, 148]
abbrev dktX0_twins_7 : List UInt8 := dkwX0_twins_7 ++ dktX0_twins_8
def dkwX0_twins_6 : List UInt8 := [21, 13, 25, 10, 182, 1, 43, 4, 54, 14, 3, 54, 15, 21, 15, 21, 7, 162, 0, 45, 21, 14]
abbrev dktX0_twins_6 : List UInt8 := dkwX0_twins_6 ++ dktX0_twins_7
def dkwX0_twins_5 : List UInt8 := [21, 5, 188, 8, 58, 10, 3, 54, 11, 3, 54, 12, 3, 54, 13, 21, 13, 21, 6, 162, 0, 94, 42]
abbrev dktX0_twins_5 : List UInt8 := dkwX0_twins_5 ++ dktX0_twins_6
def dkwX0_twins_4 : List UInt8 := [182, 1, 43, 25, 8, 21, 10, 42, 27, 182, 0, 188, 25, 9, 184, 0, 227, 80, 132, 10, 1, 167, 255, 223]
abbrev dktX0_twins_4 : List UInt8 := dkwX0_twins_4 ++ dktX0_twins_5
def dkwX0_twins_3 : List UInt8 := [58, 8, 28, 188, 8, 58, 9, 3, 54, 10, 21, 10, 21, 7, 162, 0, 32, 42, 21, 10, 25, 9]
abbrev dktX0_twins_3 : List UInt8 := dkwX0_twins_3 ++ dktX0_twins_4
def dkwX0_twins_2 : List UInt8 := [54, 6, 21, 6, 17, 39, 16, 164, 0, 6, 16, 250, 172, 42, 28, 182, 1, 40, 54, 7, 21, 7, 188, 11]
abbrev dktX0_twins_2 : List UInt8 := dkwX0_twins_2 ++ dktX0_twins_3
def dkwX0_twins_1 : List UInt8 := [54, 4, 21, 4, 156, 0, 6, 21, 4, 172, 42, 27, 182, 0, 188, 190, 54, 5, 42, 21, 5, 182, 1, 40]
abbrev dktX0_twins_1 : List UInt8 := dkwX0_twins_1 ++ dktX0_twins_2
def dkwX0_twins_0 : List UInt8 := [28, 4, 6, 184, 0, 93, 153, 0, 10, 29, 184, 0, 97, 154, 0, 5, 2, 172, 42, 27, 182, 0, 195]
abbrev dktX0_twins_0 : List UInt8 := dkwX0_twins_0 ++ dktX0_twins_1
theorem dksX0_twins_0 : cX0_twins.data.toList.drop 0 = dktX0_twins_0 := by decide +kernel
theorem dksX0_twins_1 : cX0_twins.data.toList.drop 23 = dktX0_twins_1 := dk_seg dksX0_twins_0 23 rfl rfl
theorem dksX0_twins_2 : cX0_twins.data.toList.drop 47 = dktX0_twins_2 := dk_seg dksX0_twins_1 24 rfl rfl
theorem dksX0_twins_3 : cX0_twins.data.toList.drop 71 = dktX0_twins_3 := dk_seg dksX0_twins_2 24 rfl rfl
theorem dksX0_twins_4 : cX0_twins.data.toList.drop 93 = dktX0_twins_4 := dk_seg dksX0_twins_3 22 rfl rfl
theorem dksX0_twins_5 : cX0_twins.data.toList.drop 117 = dktX0_twins_5 := dk_seg dksX0_twins_4 24 rfl rfl
theorem dksX0_twins_6 : cX0_twins.data.toList.drop 140 = dktX0_twins_6 := dk_seg dksX0_twins_5 23 rfl rfl
theorem dksX0_twins_7 : cX0_twins.data.toList.drop 162 = dktX0_twins_7 := dk_seg dksX0_twins_6 22 rfl rfl
theorem dksX0_twins_8 : cX0_twins.data.toList.drop 186 = dktX0_twins_8 := dk_seg dksX0_twins_7 24 rfl rfl
theorem dksX0_twins_9 : cX0_twins.data.toList.drop 209 = dktX0_twins_9 := dk_seg dksX0_twins_8 23 rfl rfl
theorem dksX0_twins_10 : cX0_twins.data.toList.drop 233 = dktX0_twins_10 := dk_seg dksX0_twins_9 24 rfl rfl
theorem dksX0_twins_11 : cX0_twins.data.toList.drop 255 = dktX0_twins_11 := dk_seg dksX0_twins_10 22 rfl rfl
theorem dksX0_twins_12 : cX0_twins.data.toList.drop 278 = dktX0_twins_12 := dk_seg dksX0_twins_11 23 rfl rfl
theorem dX0_twins_0 : decode cX0_twins 0 = .ok (.iload_n 2, 1) := dk_28 (dk_at dksX0_twins_0 0 rfl rfl)
theorem dX0_twins_1 : decode cX0_twins 1 = .ok (.iconst 1, 1) := dk_4 (dk_at dksX0_twins_0 1 rfl rfl)
theorem dX0_twins_2 : decode cX0_twins 2 = .ok (.iconst 3, 1) := dk_6 (dk_at dksX0_twins_0 2 rfl rfl)
theorem dX0_twins_3 : decode cX0_twins 3 = .ok (.invokestatic 93, 3) := dk_184 0 93 (dk_at dksX0_twins_0 3 rfl rfl)
theorem dX0_twins_6 : decode cX0_twins 6 = .ok (.ifCond .eq 10, 3) := dk_153 0 10 (dk_at dksX0_twins_0 6 rfl rfl)
theorem dX0_twins_9 : decode cX0_twins 9 = .ok (.iload_n 3, 1) := dk_29 (dk_at dksX0_twins_0 9 rfl rfl)
theorem dX0_twins_10 : decode cX0_twins 10 = .ok (.invokestatic 97, 3) := dk_184 0 97 (dk_at dksX0_twins_0 10 rfl rfl)
theorem dX0_twins_13 : decode cX0_twins 13 = .ok (.ifCond .ne 5, 3) := dk_154 0 5 (dk_at dksX0_twins_0 13 rfl rfl)
theorem dX0_twins_16 : decode cX0_twins 16 = .ok (.iconst (-1), 1) := dk_2 (dk_at dksX0_twins_0 16 rfl rfl)
theorem dX0_twins_17 : decode cX0_twins 17 = .ok (.ireturn, 1) := dk_172 (dk_at dksX0_twins_0 17 rfl rfl)
theorem dX0_twins_18 : decode cX0_twins 18 = .ok (.aload_n 0, 1) := dk_42 (dk_at dksX0_twins_0 18 rfl rfl)
theorem dX0_twins_19 : decode cX0_twins 19 = .ok (.iload_n 1, 1) := dk_27 (dk_at dksX0_twins_0 19 rfl rfl)
theorem dX0_twins_20 : decode cX0_twins 20 = .ok (.invokevirtual 195, 3) := dk_182 0 195 (dk_at dksX0_twins_0 20 rfl rfl)
theorem dX0_twins_23 : decode cX0_twins 23 = .ok (.istore 4, 2) := dk_54 4 (dk_at dksX0_twins_1 0 rfl rfl)
theorem dX0_twins_25 : decode cX0_twins 25 = .ok (.iload 4, 2) := dk_21 4 (dk_at dksX0_twins_1 2 rfl rfl)
theorem dX0_twins_27 : decode cX0_twins 27 = .ok (.ifCond .ge 6, 3) := dk_156 0 6 (dk_at dksX0_twins_1 4 rfl rfl)
theorem dX0_twins_30 : decode cX0_twins 30 = .ok (.iload 4, 2) := dk_21 4 (dk_at dksX0_twins_1 7 rfl rfl)
theorem dX0_twins_32 : decode cX0_twins 32 = .ok (.ireturn, 1) := dk_172 (dk_at dksX0_twins_1 9 rfl rfl)
theorem dX0_twins_33 : decode cX0_twins 33 = .ok (.aload_n 0, 1) := dk_42 (dk_at dksX0_twins_1 10 rfl rfl)
theorem dX0_twins_34 : decode cX0_twins 34 = .ok (.iload_n 1, 1) := dk_27 (dk_at dksX0_twins_1 11 rfl rfl)
theorem dX0_twins_35 : decode cX0_twins 35 = .ok (.invokevirtual 188, 3) := dk_182 0 188 (dk_at dksX0_twins_1 12 rfl rfl)
theorem dX0_twins_38 : decode cX0_twins 38 = .ok (.arraylength, 1) := dk_190 (dk_at dksX0_twins_1 15 rfl rfl)
theorem dX0_twins_39 : decode cX0_twins 39 = .ok (.istore 5, 2) := dk_54 5 (dk_at dksX0_twins_1 16 rfl rfl)
theorem dX0_twins_41 : decode cX0_twins 41 = .ok (.aload_n 0, 1) := dk_42 (dk_at dksX0_twins_1 18 rfl rfl)
theorem dX0_twins_42 : decode cX0_twins 42 = .ok (.iload 5, 2) := dk_21 5 (dk_at dksX0_twins_1 19 rfl rfl)
theorem dX0_twins_44 : decode cX0_twins 44 = .ok (.invokevirtual 296, 3) := dk_182 1 40 (dk_at dksX0_twins_1 21 rfl rfl)
theorem dX0_twins_47 : decode cX0_twins 47 = .ok (.istore 6, 2) := dk_54 6 (dk_at dksX0_twins_2 0 rfl rfl)
theorem dX0_twins_49 : decode cX0_twins 49 = .ok (.iload 6, 2) := dk_21 6 (dk_at dksX0_twins_2 2 rfl rfl)
theorem dX0_twins_51 : decode cX0_twins 51 = .ok (.sipush 10000, 3) := dk_17 39 16 (dk_at dksX0_twins_2 4 rfl rfl)
theorem dX0_twins_54 : decode cX0_twins 54 = .ok (.if_icmp .le 6, 3) := dk_164 0 6 (dk_at dksX0_twins_2 7 rfl rfl)
theorem dX0_twins_57 : decode cX0_twins 57 = .ok (.bipush (-6), 2) := dk_16 250 (dk_at dksX0_twins_2 10 rfl rfl)
theorem dX0_twins_59 : decode cX0_twins 59 = .ok (.ireturn, 1) := dk_172 (dk_at dksX0_twins_2 12 rfl rfl)
theorem dX0_twins_60 : decode cX0_twins 60 = .ok (.aload_n 0, 1) := dk_42 (dk_at dksX0_twins_2 13 rfl rfl)
theorem dX0_twins_61 : decode cX0_twins 61 = .ok (.iload_n 2, 1) := dk_28 (dk_at dksX0_twins_2 14 rfl rfl)
theorem dX0_twins_62 : decode cX0_twins 62 = .ok (.invokevirtual 296, 3) := dk_182 1 40 (dk_at dksX0_twins_2 15 rfl rfl)
theorem dX0_twins_65 : decode cX0_twins 65 = .ok (.istore 7, 2) := dk_54 7 (dk_at dksX0_twins_2 18 rfl rfl)
theorem dX0_twins_67 : decode cX0_twins 67 = .ok (.iload 7, 2) := dk_21 7 (dk_at dksX0_twins_2 20 rfl rfl)
theorem dX0_twins_69 : decode cX0_twins 69 = .ok (.newarray .long, 2) := dk_188_11 (dk_at dksX0_twins_2 22 rfl rfl)
theorem dX0_twins_71 : decode cX0_twins 71 = .ok (.astore 8, 2) := dk_58 8 (dk_at dksX0_twins_3 0 rfl rfl)
theorem dX0_twins_73 : decode cX0_twins 73 = .ok (.iload_n 2, 1) := dk_28 (dk_at dksX0_twins_3 2 rfl rfl)
theorem dX0_twins_74 : decode cX0_twins 74 = .ok (.newarray .byte, 2) := dk_188_8 (dk_at dksX0_twins_3 3 rfl rfl)
theorem dX0_twins_76 : decode cX0_twins 76 = .ok (.astore 9, 2) := dk_58 9 (dk_at dksX0_twins_3 5 rfl rfl)
theorem dX0_twins_78 : decode cX0_twins 78 = .ok (.iconst 0, 1) := dk_3 (dk_at dksX0_twins_3 7 rfl rfl)
theorem dX0_twins_79 : decode cX0_twins 79 = .ok (.istore 10, 2) := dk_54 10 (dk_at dksX0_twins_3 8 rfl rfl)
theorem dX0_twins_81 : decode cX0_twins 81 = .ok (.iload 10, 2) := dk_21 10 (dk_at dksX0_twins_3 10 rfl rfl)
theorem dX0_twins_83 : decode cX0_twins 83 = .ok (.iload 7, 2) := dk_21 7 (dk_at dksX0_twins_3 12 rfl rfl)
theorem dX0_twins_85 : decode cX0_twins 85 = .ok (.if_icmp .ge 32, 3) := dk_162 0 32 (dk_at dksX0_twins_3 14 rfl rfl)
theorem dX0_twins_88 : decode cX0_twins 88 = .ok (.aload_n 0, 1) := dk_42 (dk_at dksX0_twins_3 17 rfl rfl)
theorem dX0_twins_89 : decode cX0_twins 89 = .ok (.iload 10, 2) := dk_21 10 (dk_at dksX0_twins_3 18 rfl rfl)
theorem dX0_twins_91 : decode cX0_twins 91 = .ok (.aload 9, 2) := dk_25 9 (dk_at dksX0_twins_3 20 rfl rfl)
theorem dX0_twins_93 : decode cX0_twins 93 = .ok (.invokevirtual 299, 3) := dk_182 1 43 (dk_at dksX0_twins_4 0 rfl rfl)
theorem dX0_twins_96 : decode cX0_twins 96 = .ok (.aload 8, 2) := dk_25 8 (dk_at dksX0_twins_4 3 rfl rfl)
theorem dX0_twins_98 : decode cX0_twins 98 = .ok (.iload 10, 2) := dk_21 10 (dk_at dksX0_twins_4 5 rfl rfl)
theorem dX0_twins_100 : decode cX0_twins 100 = .ok (.aload_n 0, 1) := dk_42 (dk_at dksX0_twins_4 7 rfl rfl)
theorem dX0_twins_101 : decode cX0_twins 101 = .ok (.iload_n 1, 1) := dk_27 (dk_at dksX0_twins_4 8 rfl rfl)
theorem dX0_twins_102 : decode cX0_twins 102 = .ok (.invokevirtual 188, 3) := dk_182 0 188 (dk_at dksX0_twins_4 9 rfl rfl)
theorem dX0_twins_105 : decode cX0_twins 105 = .ok (.aload 9, 2) := dk_25 9 (dk_at dksX0_twins_4 12 rfl rfl)
theorem dX0_twins_107 : decode cX0_twins 107 = .ok (.invokestatic 227, 3) := dk_184 0 227 (dk_at dksX0_twins_4 14 rfl rfl)
theorem dX0_twins_110 : decode cX0_twins 110 = .ok (.lastore, 1) := dk_80 (dk_at dksX0_twins_4 17 rfl rfl)
theorem dX0_twins_111 : decode cX0_twins 111 = .ok (.iinc 10 1, 3) := dk_132 10 1 (dk_at dksX0_twins_4 18 rfl rfl)
theorem dX0_twins_114 : decode cX0_twins 114 = .ok (.goto (-33), 3) := dk_167 255 223 (dk_at dksX0_twins_4 21 rfl rfl)
theorem dX0_twins_117 : decode cX0_twins 117 = .ok (.iload 5, 2) := dk_21 5 (dk_at dksX0_twins_5 0 rfl rfl)
theorem dX0_twins_119 : decode cX0_twins 119 = .ok (.newarray .byte, 2) := dk_188_8 (dk_at dksX0_twins_5 2 rfl rfl)
theorem dX0_twins_121 : decode cX0_twins 121 = .ok (.astore 10, 2) := dk_58 10 (dk_at dksX0_twins_5 4 rfl rfl)
theorem dX0_twins_123 : decode cX0_twins 123 = .ok (.iconst 0, 1) := dk_3 (dk_at dksX0_twins_5 6 rfl rfl)
theorem dX0_twins_124 : decode cX0_twins 124 = .ok (.istore 11, 2) := dk_54 11 (dk_at dksX0_twins_5 7 rfl rfl)
theorem dX0_twins_126 : decode cX0_twins 126 = .ok (.iconst 0, 1) := dk_3 (dk_at dksX0_twins_5 9 rfl rfl)
theorem dX0_twins_127 : decode cX0_twins 127 = .ok (.istore 12, 2) := dk_54 12 (dk_at dksX0_twins_5 10 rfl rfl)
theorem dX0_twins_129 : decode cX0_twins 129 = .ok (.iconst 0, 1) := dk_3 (dk_at dksX0_twins_5 12 rfl rfl)
theorem dX0_twins_130 : decode cX0_twins 130 = .ok (.istore 13, 2) := dk_54 13 (dk_at dksX0_twins_5 13 rfl rfl)
theorem dX0_twins_132 : decode cX0_twins 132 = .ok (.iload 13, 2) := dk_21 13 (dk_at dksX0_twins_5 15 rfl rfl)
theorem dX0_twins_134 : decode cX0_twins 134 = .ok (.iload 6, 2) := dk_21 6 (dk_at dksX0_twins_5 17 rfl rfl)
theorem dX0_twins_136 : decode cX0_twins 136 = .ok (.if_icmp .ge 94, 3) := dk_162 0 94 (dk_at dksX0_twins_5 19 rfl rfl)
theorem dX0_twins_139 : decode cX0_twins 139 = .ok (.aload_n 0, 1) := dk_42 (dk_at dksX0_twins_5 22 rfl rfl)
theorem dX0_twins_140 : decode cX0_twins 140 = .ok (.iload 13, 2) := dk_21 13 (dk_at dksX0_twins_6 0 rfl rfl)
theorem dX0_twins_142 : decode cX0_twins 142 = .ok (.aload 10, 2) := dk_25 10 (dk_at dksX0_twins_6 2 rfl rfl)
theorem dX0_twins_144 : decode cX0_twins 144 = .ok (.invokevirtual 299, 3) := dk_182 1 43 (dk_at dksX0_twins_6 4 rfl rfl)
theorem dX0_twins_147 : decode cX0_twins 147 = .ok (.iconst 1, 1) := dk_4 (dk_at dksX0_twins_6 7 rfl rfl)
theorem dX0_twins_148 : decode cX0_twins 148 = .ok (.istore 14, 2) := dk_54 14 (dk_at dksX0_twins_6 8 rfl rfl)
theorem dX0_twins_150 : decode cX0_twins 150 = .ok (.iconst 0, 1) := dk_3 (dk_at dksX0_twins_6 10 rfl rfl)
theorem dX0_twins_151 : decode cX0_twins 151 = .ok (.istore 15, 2) := dk_54 15 (dk_at dksX0_twins_6 11 rfl rfl)
theorem dX0_twins_153 : decode cX0_twins 153 = .ok (.iload 15, 2) := dk_21 15 (dk_at dksX0_twins_6 13 rfl rfl)
theorem dX0_twins_155 : decode cX0_twins 155 = .ok (.iload 7, 2) := dk_21 7 (dk_at dksX0_twins_6 15 rfl rfl)
theorem dX0_twins_157 : decode cX0_twins 157 = .ok (.if_icmp .ge 45, 3) := dk_162 0 45 (dk_at dksX0_twins_6 17 rfl rfl)
theorem dX0_twins_160 : decode cX0_twins 160 = .ok (.iload 14, 2) := dk_21 14 (dk_at dksX0_twins_6 20 rfl rfl)
theorem dX0_twins_162 : decode cX0_twins 162 = .ok (.ifCond .eq 40, 3) := dk_153 0 40 (dk_at dksX0_twins_7 0 rfl rfl)
theorem dX0_twins_165 : decode cX0_twins 165 = .ok (.aload_n 0, 1) := dk_42 (dk_at dksX0_twins_7 3 rfl rfl)
theorem dX0_twins_166 : decode cX0_twins 166 = .ok (.iload 15, 2) := dk_21 15 (dk_at dksX0_twins_7 4 rfl rfl)
theorem dX0_twins_168 : decode cX0_twins 168 = .ok (.aload 9, 2) := dk_25 9 (dk_at dksX0_twins_7 6 rfl rfl)
theorem dX0_twins_170 : decode cX0_twins 170 = .ok (.invokevirtual 299, 3) := dk_182 1 43 (dk_at dksX0_twins_7 8 rfl rfl)
theorem dX0_twins_173 : decode cX0_twins 173 = .ok (.aload 10, 2) := dk_25 10 (dk_at dksX0_twins_7 11 rfl rfl)
theorem dX0_twins_175 : decode cX0_twins 175 = .ok (.aload 9, 2) := dk_25 9 (dk_at dksX0_twins_7 13 rfl rfl)
theorem dX0_twins_177 : decode cX0_twins 177 = .ok (.invokestatic 303, 3) := dk_184 1 47 (dk_at dksX0_twins_7 15 rfl rfl)
theorem dX0_twins_180 : decode cX0_twins 180 = .ok (.aload 8, 2) := dk_25 8 (dk_at dksX0_twins_7 18 rfl rfl)
theorem dX0_twins_182 : decode cX0_twins 182 = .ok (.iload 15, 2) := dk_21 15 (dk_at dksX0_twins_7 20 rfl rfl)
theorem dX0_twins_184 : decode cX0_twins 184 = .ok (.laload, 1) := dk_47 (dk_at dksX0_twins_7 22 rfl rfl)
theorem dX0_twins_185 : decode cX0_twins 185 = .ok (.lcmp, 1) := dk_148 (dk_at dksX0_twins_7 23 rfl rfl)
theorem dX0_twins_186 : decode cX0_twins 186 = .ok (.ifCond .ne 7, 3) := dk_154 0 7 (dk_at dksX0_twins_8 0 rfl rfl)
theorem dX0_twins_189 : decode cX0_twins 189 = .ok (.iconst 1, 1) := dk_4 (dk_at dksX0_twins_8 3 rfl rfl)
theorem dX0_twins_190 : decode cX0_twins 190 = .ok (.goto 4, 3) := dk_167 0 4 (dk_at dksX0_twins_8 4 rfl rfl)
theorem dX0_twins_193 : decode cX0_twins 193 = .ok (.iconst 0, 1) := dk_3 (dk_at dksX0_twins_8 7 rfl rfl)
theorem dX0_twins_194 : decode cX0_twins 194 = .ok (.istore 14, 2) := dk_54 14 (dk_at dksX0_twins_8 8 rfl rfl)
theorem dX0_twins_196 : decode cX0_twins 196 = .ok (.iinc 15 1, 3) := dk_132 15 1 (dk_at dksX0_twins_8 10 rfl rfl)
theorem dX0_twins_199 : decode cX0_twins 199 = .ok (.goto (-46), 3) := dk_167 255 210 (dk_at dksX0_twins_8 13 rfl rfl)
theorem dX0_twins_202 : decode cX0_twins 202 = .ok (.iload 14, 2) := dk_21 14 (dk_at dksX0_twins_8 16 rfl rfl)
theorem dX0_twins_204 : decode cX0_twins 204 = .ok (.ifCond .eq 20, 3) := dk_153 0 20 (dk_at dksX0_twins_8 18 rfl rfl)
theorem dX0_twins_207 : decode cX0_twins 207 = .ok (.iload 11, 2) := dk_21 11 (dk_at dksX0_twins_8 21 rfl rfl)
theorem dX0_twins_209 : decode cX0_twins 209 = .ok (.ifCond .ne 8, 3) := dk_154 0 8 (dk_at dksX0_twins_9 0 rfl rfl)
theorem dX0_twins_212 : decode cX0_twins 212 = .ok (.iload 13, 2) := dk_21 13 (dk_at dksX0_twins_9 3 rfl rfl)
theorem dX0_twins_214 : decode cX0_twins 214 = .ok (.goto 5, 3) := dk_167 0 5 (dk_at dksX0_twins_9 5 rfl rfl)
theorem dX0_twins_217 : decode cX0_twins 217 = .ok (.iload 12, 2) := dk_21 12 (dk_at dksX0_twins_9 8 rfl rfl)
theorem dX0_twins_219 : decode cX0_twins 219 = .ok (.istore 12, 2) := dk_54 12 (dk_at dksX0_twins_9 10 rfl rfl)
theorem dX0_twins_221 : decode cX0_twins 221 = .ok (.iinc 11 1, 3) := dk_132 11 1 (dk_at dksX0_twins_9 12 rfl rfl)
theorem dX0_twins_224 : decode cX0_twins 224 = .ok (.iinc 13 1, 3) := dk_132 13 1 (dk_at dksX0_twins_9 15 rfl rfl)
theorem dX0_twins_227 : decode cX0_twins 227 = .ok (.goto (-95), 3) := dk_167 255 161 (dk_at dksX0_twins_9 18 rfl rfl)
theorem dX0_twins_230 : decode cX0_twins 230 = .ok (.aload_n 0, 1) := dk_42 (dk_at dksX0_twins_9 21 rfl rfl)
theorem dX0_twins_231 : decode cX0_twins 231 = .ok (.iload 12, 2) := dk_21 12 (dk_at dksX0_twins_9 22 rfl rfl)
theorem dX0_twins_233 : decode cX0_twins 233 = .ok (.aload 10, 2) := dk_25 10 (dk_at dksX0_twins_10 0 rfl rfl)
theorem dX0_twins_235 : decode cX0_twins 235 = .ok (.invokevirtual 299, 3) := dk_182 1 43 (dk_at dksX0_twins_10 2 rfl rfl)
theorem dX0_twins_238 : decode cX0_twins 238 = .ok (.aload_n 0, 1) := dk_42 (dk_at dksX0_twins_10 5 rfl rfl)
theorem dX0_twins_239 : decode cX0_twins 239 = .ok (.getfield 34, 3) := dk_180 0 34 (dk_at dksX0_twins_10 6 rfl rfl)
theorem dX0_twins_242 : decode cX0_twins 242 = .ok (.iload_n 3, 1) := dk_29 (dk_at dksX0_twins_10 9 rfl rfl)
theorem dX0_twins_243 : decode cX0_twins 243 = .ok (.iload 5, 2) := dk_21 5 (dk_at dksX0_twins_10 10 rfl rfl)
theorem dX0_twins_245 : decode cX0_twins 245 = .ok (.newarray .int, 2) := dk_188_10 (dk_at dksX0_twins_10 12 rfl rfl)
theorem dX0_twins_247 : decode cX0_twins 247 = .ok (.aastore, 1) := dk_83 (dk_at dksX0_twins_10 14 rfl rfl)
theorem dX0_twins_248 : decode cX0_twins 248 = .ok (.iconst 0, 1) := dk_3 (dk_at dksX0_twins_10 15 rfl rfl)
theorem dX0_twins_249 : decode cX0_twins 249 = .ok (.istore 13, 2) := dk_54 13 (dk_at dksX0_twins_10 16 rfl rfl)
theorem dX0_twins_251 : decode cX0_twins 251 = .ok (.iload 13, 2) := dk_21 13 (dk_at dksX0_twins_10 18 rfl rfl)
theorem dX0_twins_253 : decode cX0_twins 253 = .ok (.iload 5, 2) := dk_21 5 (dk_at dksX0_twins_10 20 rfl rfl)
theorem dX0_twins_255 : decode cX0_twins 255 = .ok (.if_icmp .ge 23, 3) := dk_162 0 23 (dk_at dksX0_twins_11 0 rfl rfl)
theorem dX0_twins_258 : decode cX0_twins 258 = .ok (.aload_n 0, 1) := dk_42 (dk_at dksX0_twins_11 3 rfl rfl)
theorem dX0_twins_259 : decode cX0_twins 259 = .ok (.getfield 34, 3) := dk_180 0 34 (dk_at dksX0_twins_11 4 rfl rfl)
theorem dX0_twins_262 : decode cX0_twins 262 = .ok (.iload_n 3, 1) := dk_29 (dk_at dksX0_twins_11 7 rfl rfl)
theorem dX0_twins_263 : decode cX0_twins 263 = .ok (.aaload, 1) := dk_50 (dk_at dksX0_twins_11 8 rfl rfl)
theorem dX0_twins_264 : decode cX0_twins 264 = .ok (.iload 13, 2) := dk_21 13 (dk_at dksX0_twins_11 9 rfl rfl)
theorem dX0_twins_266 : decode cX0_twins 266 = .ok (.aload 10, 2) := dk_25 10 (dk_at dksX0_twins_11 11 rfl rfl)
theorem dX0_twins_268 : decode cX0_twins 268 = .ok (.iload 13, 2) := dk_21 13 (dk_at dksX0_twins_11 13 rfl rfl)
theorem dX0_twins_270 : decode cX0_twins 270 = .ok (.baload, 1) := dk_51 (dk_at dksX0_twins_11 15 rfl rfl)
theorem dX0_twins_271 : decode cX0_twins 271 = .ok (.iastore, 1) := dk_79 (dk_at dksX0_twins_11 16 rfl rfl)
theorem dX0_twins_272 : decode cX0_twins 272 = .ok (.iinc 13 1, 3) := dk_132 13 1 (dk_at dksX0_twins_11 17 rfl rfl)
theorem dX0_twins_275 : decode cX0_twins 275 = .ok (.goto (-24), 3) := dk_167 255 232 (dk_at dksX0_twins_11 20 rfl rfl)
theorem dX0_twins_278 : decode cX0_twins 278 = .ok (.iload 11, 2) := dk_21 11 (dk_at dksX0_twins_12 0 rfl rfl)
theorem dX0_twins_280 : decode cX0_twins 280 = .ok (.ireturn, 1) := dk_172 (dk_at dksX0_twins_12 2 rfl rfl)
abbrev cX0_power : ByteArray := prog_1_method_71_code
def yX0_power : MethodName := ⟨RX0, "power", "(I)I"⟩
def dkwX0_power_1 : List UInt8 := [132, 3, 1, 167, 255, 234, 28, 172]
abbrev dktX0_power_1 : List UInt8 := dkwX0_power_1 ++ []
def dkwX0_power_0 : List UInt8 := [4, 61, 3, 62, 29, 27, 162, 0, 23, 28, 17, 39, 16, 163, 0, 16, 28, 42, 180, 0, 30, 104, 61]
abbrev dktX0_power_0 : List UInt8 := dkwX0_power_0 ++ dktX0_power_1
theorem dksX0_power_0 : cX0_power.data.toList.drop 0 = dktX0_power_0 := by decide +kernel
theorem dksX0_power_1 : cX0_power.data.toList.drop 23 = dktX0_power_1 := dk_seg dksX0_power_0 23 rfl rfl
theorem dX0_power_0 : decode cX0_power 0 = .ok (.iconst 1, 1) := dk_4 (dk_at dksX0_power_0 0 rfl rfl)
theorem dX0_power_1 : decode cX0_power 1 = .ok (.istore_n 2, 1) := dk_61 (dk_at dksX0_power_0 1 rfl rfl)
theorem dX0_power_2 : decode cX0_power 2 = .ok (.iconst 0, 1) := dk_3 (dk_at dksX0_power_0 2 rfl rfl)
theorem dX0_power_3 : decode cX0_power 3 = .ok (.istore_n 3, 1) := dk_62 (dk_at dksX0_power_0 3 rfl rfl)
theorem dX0_power_4 : decode cX0_power 4 = .ok (.iload_n 3, 1) := dk_29 (dk_at dksX0_power_0 4 rfl rfl)
theorem dX0_power_5 : decode cX0_power 5 = .ok (.iload_n 1, 1) := dk_27 (dk_at dksX0_power_0 5 rfl rfl)
theorem dX0_power_6 : decode cX0_power 6 = .ok (.if_icmp .ge 23, 3) := dk_162 0 23 (dk_at dksX0_power_0 6 rfl rfl)
theorem dX0_power_9 : decode cX0_power 9 = .ok (.iload_n 2, 1) := dk_28 (dk_at dksX0_power_0 9 rfl rfl)
theorem dX0_power_10 : decode cX0_power 10 = .ok (.sipush 10000, 3) := dk_17 39 16 (dk_at dksX0_power_0 10 rfl rfl)
theorem dX0_power_13 : decode cX0_power 13 = .ok (.if_icmp .gt 16, 3) := dk_163 0 16 (dk_at dksX0_power_0 13 rfl rfl)
theorem dX0_power_16 : decode cX0_power 16 = .ok (.iload_n 2, 1) := dk_28 (dk_at dksX0_power_0 16 rfl rfl)
theorem dX0_power_17 : decode cX0_power 17 = .ok (.aload_n 0, 1) := dk_42 (dk_at dksX0_power_0 17 rfl rfl)
theorem dX0_power_18 : decode cX0_power 18 = .ok (.getfield 30, 3) := dk_180 0 30 (dk_at dksX0_power_0 18 rfl rfl)
theorem dX0_power_21 : decode cX0_power 21 = .ok (.imul, 1) := dk_104 (dk_at dksX0_power_0 21 rfl rfl)
theorem dX0_power_22 : decode cX0_power 22 = .ok (.istore_n 2, 1) := dk_61 (dk_at dksX0_power_0 22 rfl rfl)
theorem dX0_power_23 : decode cX0_power 23 = .ok (.iinc 3 1, 3) := dk_132 3 1 (dk_at dksX0_power_1 0 rfl rfl)
theorem dX0_power_26 : decode cX0_power 26 = .ok (.goto (-22), 3) := dk_167 255 234 (dk_at dksX0_power_1 3 rfl rfl)
theorem dX0_power_29 : decode cX0_power 29 = .ok (.iload_n 2, 1) := dk_28 (dk_at dksX0_power_1 6 rfl rfl)
theorem dX0_power_30 : decode cX0_power 30 = .ok (.ireturn, 1) := dk_172 (dk_at dksX0_power_1 7 rfl rfl)
abbrev cX0_spell : ByteArray := prog_1_method_70_code
def yX0_spell : MethodName := ⟨RX0, "spell", "(I[B)V"⟩
def dkwX0_spell_1 : List UInt8 := [29, 42, 180, 0, 30, 108, 62, 132, 4, 255, 167, 255, 230, 177]
abbrev dktX0_spell_1 : List UInt8 := dkwX0_spell_1 ++ []
def dkwX0_spell_0 : List UInt8 := [27, 62, 44, 190, 4, 100, 54, 4, 21, 4, 155, 0, 27, 44, 21, 4, 29, 42, 180, 0, 30, 112, 145, 84]
abbrev dktX0_spell_0 : List UInt8 := dkwX0_spell_0 ++ dktX0_spell_1
theorem dksX0_spell_0 : cX0_spell.data.toList.drop 0 = dktX0_spell_0 := by decide +kernel
theorem dksX0_spell_1 : cX0_spell.data.toList.drop 24 = dktX0_spell_1 := dk_seg dksX0_spell_0 24 rfl rfl
theorem dX0_spell_0 : decode cX0_spell 0 = .ok (.iload_n 1, 1) := dk_27 (dk_at dksX0_spell_0 0 rfl rfl)
theorem dX0_spell_1 : decode cX0_spell 1 = .ok (.istore_n 3, 1) := dk_62 (dk_at dksX0_spell_0 1 rfl rfl)
theorem dX0_spell_2 : decode cX0_spell 2 = .ok (.aload_n 2, 1) := dk_44 (dk_at dksX0_spell_0 2 rfl rfl)
theorem dX0_spell_3 : decode cX0_spell 3 = .ok (.arraylength, 1) := dk_190 (dk_at dksX0_spell_0 3 rfl rfl)
theorem dX0_spell_4 : decode cX0_spell 4 = .ok (.iconst 1, 1) := dk_4 (dk_at dksX0_spell_0 4 rfl rfl)
theorem dX0_spell_5 : decode cX0_spell 5 = .ok (.isub, 1) := dk_100 (dk_at dksX0_spell_0 5 rfl rfl)
theorem dX0_spell_6 : decode cX0_spell 6 = .ok (.istore 4, 2) := dk_54 4 (dk_at dksX0_spell_0 6 rfl rfl)
theorem dX0_spell_8 : decode cX0_spell 8 = .ok (.iload 4, 2) := dk_21 4 (dk_at dksX0_spell_0 8 rfl rfl)
theorem dX0_spell_10 : decode cX0_spell 10 = .ok (.ifCond .lt 27, 3) := dk_155 0 27 (dk_at dksX0_spell_0 10 rfl rfl)
theorem dX0_spell_13 : decode cX0_spell 13 = .ok (.aload_n 2, 1) := dk_44 (dk_at dksX0_spell_0 13 rfl rfl)
theorem dX0_spell_14 : decode cX0_spell 14 = .ok (.iload 4, 2) := dk_21 4 (dk_at dksX0_spell_0 14 rfl rfl)
theorem dX0_spell_16 : decode cX0_spell 16 = .ok (.iload_n 3, 1) := dk_29 (dk_at dksX0_spell_0 16 rfl rfl)
theorem dX0_spell_17 : decode cX0_spell 17 = .ok (.aload_n 0, 1) := dk_42 (dk_at dksX0_spell_0 17 rfl rfl)
theorem dX0_spell_18 : decode cX0_spell 18 = .ok (.getfield 30, 3) := dk_180 0 30 (dk_at dksX0_spell_0 18 rfl rfl)
theorem dX0_spell_21 : decode cX0_spell 21 = .ok (.irem, 1) := dk_112 (dk_at dksX0_spell_0 21 rfl rfl)
theorem dX0_spell_22 : decode cX0_spell 22 = .ok (.i2b, 1) := dk_145 (dk_at dksX0_spell_0 22 rfl rfl)
theorem dX0_spell_23 : decode cX0_spell 23 = .ok (.bastore, 1) := dk_84 (dk_at dksX0_spell_0 23 rfl rfl)
theorem dX0_spell_24 : decode cX0_spell 24 = .ok (.iload_n 3, 1) := dk_29 (dk_at dksX0_spell_1 0 rfl rfl)
theorem dX0_spell_25 : decode cX0_spell 25 = .ok (.aload_n 0, 1) := dk_42 (dk_at dksX0_spell_1 1 rfl rfl)
theorem dX0_spell_26 : decode cX0_spell 26 = .ok (.getfield 30, 3) := dk_180 0 30 (dk_at dksX0_spell_1 2 rfl rfl)
theorem dX0_spell_29 : decode cX0_spell 29 = .ok (.idiv, 1) := dk_108 (dk_at dksX0_spell_1 5 rfl rfl)
theorem dX0_spell_30 : decode cX0_spell 30 = .ok (.istore_n 3, 1) := dk_62 (dk_at dksX0_spell_1 6 rfl rfl)
theorem dX0_spell_31 : decode cX0_spell 31 = .ok (.iinc 4 (-1), 3) := dk_132 4 255 (dk_at dksX0_spell_1 7 rfl rfl)
theorem dX0_spell_34 : decode cX0_spell 34 = .ok (.goto (-26), 3) := dk_167 255 230 (dk_at dksX0_spell_1 10 rfl rfl)
theorem dX0_spell_37 : decode cX0_spell 37 = .ok (.return_, 1) := dk_177 (dk_at dksX0_spell_1 13 rfl rfl)
abbrev cX0_few : ByteArray := prog_1_method_73_code
def yX0_few : MethodName := ⟨RX0, "few", "([B[B)J"⟩
def dkwX0_few_5 : List UInt8 := [5, 160, 0, 8, 22, 4, 167, 0, 5, 22, 6, 173]
abbrev dktX0_few_5 : List UInt8 := dkwX0_few_5 ++ []
def dkwX0_few_4 : List UInt8 := [167, 0, 4, 9, 97, 65, 132, 10, 1, 167, 255, 174, 43, 190, 4, 160, 0, 7, 32, 167, 0, 16, 43, 190]
abbrev dktX0_few_4 : List UInt8 := dkwX0_few_4 ++ dktX0_few_5
def dkwX0_few_3 : List UInt8 := [21, 11, 160, 0, 7, 32, 167, 0, 4, 9, 97, 55, 4, 32, 43, 3, 51, 21, 11, 160, 0, 7, 10]
abbrev dktX0_few_3 : List UInt8 := dkwX0_few_3 ++ dktX0_few_4
def dkwX0_few_2 : List UInt8 := [160, 0, 8, 22, 4, 167, 0, 4, 9, 97, 55, 6, 22, 4, 43, 190, 4, 164, 0, 15, 43, 4, 51]
abbrev dktX0_few_2 : List UInt8 := dkwX0_few_2 ++ dktX0_few_3
def dkwX0_few_1 : List UInt8 := [162, 0, 81, 25, 8, 21, 10, 51, 54, 11, 22, 6, 43, 190, 5, 164, 0, 16, 43, 5, 51, 21, 11]
abbrev dktX0_few_1 : List UInt8 := dkwX0_few_1 ++ dktX0_few_2
def dkwX0_few_0 : List UInt8 := [9, 65, 9, 55, 4, 9, 55, 6, 42, 58, 8, 25, 8, 190, 54, 9, 3, 54, 10, 21, 10, 21, 9]
abbrev dktX0_few_0 : List UInt8 := dkwX0_few_0 ++ dktX0_few_1
theorem dksX0_few_0 : cX0_few.data.toList.drop 0 = dktX0_few_0 := by decide +kernel
theorem dksX0_few_1 : cX0_few.data.toList.drop 23 = dktX0_few_1 := dk_seg dksX0_few_0 23 rfl rfl
theorem dksX0_few_2 : cX0_few.data.toList.drop 46 = dktX0_few_2 := dk_seg dksX0_few_1 23 rfl rfl
theorem dksX0_few_3 : cX0_few.data.toList.drop 69 = dktX0_few_3 := dk_seg dksX0_few_2 23 rfl rfl
theorem dksX0_few_4 : cX0_few.data.toList.drop 92 = dktX0_few_4 := dk_seg dksX0_few_3 23 rfl rfl
theorem dksX0_few_5 : cX0_few.data.toList.drop 116 = dktX0_few_5 := dk_seg dksX0_few_4 24 rfl rfl
theorem dX0_few_0 : decode cX0_few 0 = .ok (.lconst 0, 1) := dk_9 (dk_at dksX0_few_0 0 rfl rfl)
theorem dX0_few_1 : decode cX0_few 1 = .ok (.lstore_n 2, 1) := dk_65 (dk_at dksX0_few_0 1 rfl rfl)
theorem dX0_few_2 : decode cX0_few 2 = .ok (.lconst 0, 1) := dk_9 (dk_at dksX0_few_0 2 rfl rfl)
theorem dX0_few_3 : decode cX0_few 3 = .ok (.lstore 4, 2) := dk_55 4 (dk_at dksX0_few_0 3 rfl rfl)
theorem dX0_few_5 : decode cX0_few 5 = .ok (.lconst 0, 1) := dk_9 (dk_at dksX0_few_0 5 rfl rfl)
theorem dX0_few_6 : decode cX0_few 6 = .ok (.lstore 6, 2) := dk_55 6 (dk_at dksX0_few_0 6 rfl rfl)
theorem dX0_few_8 : decode cX0_few 8 = .ok (.aload_n 0, 1) := dk_42 (dk_at dksX0_few_0 8 rfl rfl)
theorem dX0_few_9 : decode cX0_few 9 = .ok (.astore 8, 2) := dk_58 8 (dk_at dksX0_few_0 9 rfl rfl)
theorem dX0_few_11 : decode cX0_few 11 = .ok (.aload 8, 2) := dk_25 8 (dk_at dksX0_few_0 11 rfl rfl)
theorem dX0_few_13 : decode cX0_few 13 = .ok (.arraylength, 1) := dk_190 (dk_at dksX0_few_0 13 rfl rfl)
theorem dX0_few_14 : decode cX0_few 14 = .ok (.istore 9, 2) := dk_54 9 (dk_at dksX0_few_0 14 rfl rfl)
theorem dX0_few_16 : decode cX0_few 16 = .ok (.iconst 0, 1) := dk_3 (dk_at dksX0_few_0 16 rfl rfl)
theorem dX0_few_17 : decode cX0_few 17 = .ok (.istore 10, 2) := dk_54 10 (dk_at dksX0_few_0 17 rfl rfl)
theorem dX0_few_19 : decode cX0_few 19 = .ok (.iload 10, 2) := dk_21 10 (dk_at dksX0_few_0 19 rfl rfl)
theorem dX0_few_21 : decode cX0_few 21 = .ok (.iload 9, 2) := dk_21 9 (dk_at dksX0_few_0 21 rfl rfl)
theorem dX0_few_23 : decode cX0_few 23 = .ok (.if_icmp .ge 81, 3) := dk_162 0 81 (dk_at dksX0_few_1 0 rfl rfl)
theorem dX0_few_26 : decode cX0_few 26 = .ok (.aload 8, 2) := dk_25 8 (dk_at dksX0_few_1 3 rfl rfl)
theorem dX0_few_28 : decode cX0_few 28 = .ok (.iload 10, 2) := dk_21 10 (dk_at dksX0_few_1 5 rfl rfl)
theorem dX0_few_30 : decode cX0_few 30 = .ok (.baload, 1) := dk_51 (dk_at dksX0_few_1 7 rfl rfl)
theorem dX0_few_31 : decode cX0_few 31 = .ok (.istore 11, 2) := dk_54 11 (dk_at dksX0_few_1 8 rfl rfl)
theorem dX0_few_33 : decode cX0_few 33 = .ok (.lload 6, 2) := dk_22 6 (dk_at dksX0_few_1 10 rfl rfl)
theorem dX0_few_35 : decode cX0_few 35 = .ok (.aload_n 1, 1) := dk_43 (dk_at dksX0_few_1 12 rfl rfl)
theorem dX0_few_36 : decode cX0_few 36 = .ok (.arraylength, 1) := dk_190 (dk_at dksX0_few_1 13 rfl rfl)
theorem dX0_few_37 : decode cX0_few 37 = .ok (.iconst 2, 1) := dk_5 (dk_at dksX0_few_1 14 rfl rfl)
theorem dX0_few_38 : decode cX0_few 38 = .ok (.if_icmp .le 16, 3) := dk_164 0 16 (dk_at dksX0_few_1 15 rfl rfl)
theorem dX0_few_41 : decode cX0_few 41 = .ok (.aload_n 1, 1) := dk_43 (dk_at dksX0_few_1 18 rfl rfl)
theorem dX0_few_42 : decode cX0_few 42 = .ok (.iconst 2, 1) := dk_5 (dk_at dksX0_few_1 19 rfl rfl)
theorem dX0_few_43 : decode cX0_few 43 = .ok (.baload, 1) := dk_51 (dk_at dksX0_few_1 20 rfl rfl)
theorem dX0_few_44 : decode cX0_few 44 = .ok (.iload 11, 2) := dk_21 11 (dk_at dksX0_few_1 21 rfl rfl)
theorem dX0_few_46 : decode cX0_few 46 = .ok (.if_icmp .ne 8, 3) := dk_160 0 8 (dk_at dksX0_few_2 0 rfl rfl)
theorem dX0_few_49 : decode cX0_few 49 = .ok (.lload 4, 2) := dk_22 4 (dk_at dksX0_few_2 3 rfl rfl)
theorem dX0_few_51 : decode cX0_few 51 = .ok (.goto 4, 3) := dk_167 0 4 (dk_at dksX0_few_2 5 rfl rfl)
theorem dX0_few_54 : decode cX0_few 54 = .ok (.lconst 0, 1) := dk_9 (dk_at dksX0_few_2 8 rfl rfl)
theorem dX0_few_55 : decode cX0_few 55 = .ok (.ladd, 1) := dk_97 (dk_at dksX0_few_2 9 rfl rfl)
theorem dX0_few_56 : decode cX0_few 56 = .ok (.lstore 6, 2) := dk_55 6 (dk_at dksX0_few_2 10 rfl rfl)
theorem dX0_few_58 : decode cX0_few 58 = .ok (.lload 4, 2) := dk_22 4 (dk_at dksX0_few_2 12 rfl rfl)
theorem dX0_few_60 : decode cX0_few 60 = .ok (.aload_n 1, 1) := dk_43 (dk_at dksX0_few_2 14 rfl rfl)
theorem dX0_few_61 : decode cX0_few 61 = .ok (.arraylength, 1) := dk_190 (dk_at dksX0_few_2 15 rfl rfl)
theorem dX0_few_62 : decode cX0_few 62 = .ok (.iconst 1, 1) := dk_4 (dk_at dksX0_few_2 16 rfl rfl)
theorem dX0_few_63 : decode cX0_few 63 = .ok (.if_icmp .le 15, 3) := dk_164 0 15 (dk_at dksX0_few_2 17 rfl rfl)
theorem dX0_few_66 : decode cX0_few 66 = .ok (.aload_n 1, 1) := dk_43 (dk_at dksX0_few_2 20 rfl rfl)
theorem dX0_few_67 : decode cX0_few 67 = .ok (.iconst 1, 1) := dk_4 (dk_at dksX0_few_2 21 rfl rfl)
theorem dX0_few_68 : decode cX0_few 68 = .ok (.baload, 1) := dk_51 (dk_at dksX0_few_2 22 rfl rfl)
theorem dX0_few_69 : decode cX0_few 69 = .ok (.iload 11, 2) := dk_21 11 (dk_at dksX0_few_3 0 rfl rfl)
theorem dX0_few_71 : decode cX0_few 71 = .ok (.if_icmp .ne 7, 3) := dk_160 0 7 (dk_at dksX0_few_3 2 rfl rfl)
theorem dX0_few_74 : decode cX0_few 74 = .ok (.lload_n 2, 1) := dk_32 (dk_at dksX0_few_3 5 rfl rfl)
theorem dX0_few_75 : decode cX0_few 75 = .ok (.goto 4, 3) := dk_167 0 4 (dk_at dksX0_few_3 6 rfl rfl)
theorem dX0_few_78 : decode cX0_few 78 = .ok (.lconst 0, 1) := dk_9 (dk_at dksX0_few_3 9 rfl rfl)
theorem dX0_few_79 : decode cX0_few 79 = .ok (.ladd, 1) := dk_97 (dk_at dksX0_few_3 10 rfl rfl)
theorem dX0_few_80 : decode cX0_few 80 = .ok (.lstore 4, 2) := dk_55 4 (dk_at dksX0_few_3 11 rfl rfl)
theorem dX0_few_82 : decode cX0_few 82 = .ok (.lload_n 2, 1) := dk_32 (dk_at dksX0_few_3 13 rfl rfl)
theorem dX0_few_83 : decode cX0_few 83 = .ok (.aload_n 1, 1) := dk_43 (dk_at dksX0_few_3 14 rfl rfl)
theorem dX0_few_84 : decode cX0_few 84 = .ok (.iconst 0, 1) := dk_3 (dk_at dksX0_few_3 15 rfl rfl)
theorem dX0_few_85 : decode cX0_few 85 = .ok (.baload, 1) := dk_51 (dk_at dksX0_few_3 16 rfl rfl)
theorem dX0_few_86 : decode cX0_few 86 = .ok (.iload 11, 2) := dk_21 11 (dk_at dksX0_few_3 17 rfl rfl)
theorem dX0_few_88 : decode cX0_few 88 = .ok (.if_icmp .ne 7, 3) := dk_160 0 7 (dk_at dksX0_few_3 19 rfl rfl)
theorem dX0_few_91 : decode cX0_few 91 = .ok (.lconst 1, 1) := dk_10 (dk_at dksX0_few_3 22 rfl rfl)
theorem dX0_few_92 : decode cX0_few 92 = .ok (.goto 4, 3) := dk_167 0 4 (dk_at dksX0_few_4 0 rfl rfl)
theorem dX0_few_95 : decode cX0_few 95 = .ok (.lconst 0, 1) := dk_9 (dk_at dksX0_few_4 3 rfl rfl)
theorem dX0_few_96 : decode cX0_few 96 = .ok (.ladd, 1) := dk_97 (dk_at dksX0_few_4 4 rfl rfl)
theorem dX0_few_97 : decode cX0_few 97 = .ok (.lstore_n 2, 1) := dk_65 (dk_at dksX0_few_4 5 rfl rfl)
theorem dX0_few_98 : decode cX0_few 98 = .ok (.iinc 10 1, 3) := dk_132 10 1 (dk_at dksX0_few_4 6 rfl rfl)
theorem dX0_few_101 : decode cX0_few 101 = .ok (.goto (-82), 3) := dk_167 255 174 (dk_at dksX0_few_4 9 rfl rfl)
theorem dX0_few_104 : decode cX0_few 104 = .ok (.aload_n 1, 1) := dk_43 (dk_at dksX0_few_4 12 rfl rfl)
theorem dX0_few_105 : decode cX0_few 105 = .ok (.arraylength, 1) := dk_190 (dk_at dksX0_few_4 13 rfl rfl)
theorem dX0_few_106 : decode cX0_few 106 = .ok (.iconst 1, 1) := dk_4 (dk_at dksX0_few_4 14 rfl rfl)
theorem dX0_few_107 : decode cX0_few 107 = .ok (.if_icmp .ne 7, 3) := dk_160 0 7 (dk_at dksX0_few_4 15 rfl rfl)
theorem dX0_few_110 : decode cX0_few 110 = .ok (.lload_n 2, 1) := dk_32 (dk_at dksX0_few_4 18 rfl rfl)
theorem dX0_few_111 : decode cX0_few 111 = .ok (.goto 16, 3) := dk_167 0 16 (dk_at dksX0_few_4 19 rfl rfl)
theorem dX0_few_114 : decode cX0_few 114 = .ok (.aload_n 1, 1) := dk_43 (dk_at dksX0_few_4 22 rfl rfl)
theorem dX0_few_115 : decode cX0_few 115 = .ok (.arraylength, 1) := dk_190 (dk_at dksX0_few_4 23 rfl rfl)
theorem dX0_few_116 : decode cX0_few 116 = .ok (.iconst 2, 1) := dk_5 (dk_at dksX0_few_5 0 rfl rfl)
theorem dX0_few_117 : decode cX0_few 117 = .ok (.if_icmp .ne 8, 3) := dk_160 0 8 (dk_at dksX0_few_5 1 rfl rfl)
theorem dX0_few_120 : decode cX0_few 120 = .ok (.lload 4, 2) := dk_22 4 (dk_at dksX0_few_5 4 rfl rfl)
theorem dX0_few_122 : decode cX0_few 122 = .ok (.goto 5, 3) := dk_167 0 5 (dk_at dksX0_few_5 6 rfl rfl)
theorem dX0_few_125 : decode cX0_few 125 = .ok (.lload 6, 2) := dk_22 6 (dk_at dksX0_few_5 9 rfl rfl)
theorem dX0_few_127 : decode cX0_few 127 = .ok (.lreturn, 1) := dk_173 (dk_at dksX0_few_5 11 rfl rfl)
abbrev cX0_odds : ByteArray := prog_1_method_75_code
def yX0_odds : MethodName := ⟨RX0, "odds", "(II)I"⟩
def dkwX0_odds_2 : List UInt8 := [42, 27, 182, 0, 188, 190, 42, 28, 182, 0, 188, 190, 184, 1, 50, 4, 182, 1, 54, 172]
abbrev dktX0_odds_2 : List UInt8 := dkwX0_odds_2 ++ []
def dkwX0_odds_1 : List UInt8 := [190, 164, 0, 9, 42, 7, 182, 0, 103, 172, 42, 42, 27, 182, 0, 188, 42, 28, 182, 0, 188, 184, 0, 227]
abbrev dktX0_odds_1 : List UInt8 := dkwX0_odds_1 ++ dktX0_odds_2
def dkwX0_odds_0 : List UInt8 := [42, 27, 28, 182, 0, 185, 62, 29, 156, 0, 5, 29, 172, 42, 28, 182, 0, 188, 190, 42, 27, 182, 0, 188]
abbrev dktX0_odds_0 : List UInt8 := dkwX0_odds_0 ++ dktX0_odds_1
theorem dksX0_odds_0 : cX0_odds.data.toList.drop 0 = dktX0_odds_0 := by decide +kernel
theorem dksX0_odds_1 : cX0_odds.data.toList.drop 24 = dktX0_odds_1 := dk_seg dksX0_odds_0 24 rfl rfl
theorem dksX0_odds_2 : cX0_odds.data.toList.drop 48 = dktX0_odds_2 := dk_seg dksX0_odds_1 24 rfl rfl
theorem dX0_odds_0 : decode cX0_odds 0 = .ok (.aload_n 0, 1) := dk_42 (dk_at dksX0_odds_0 0 rfl rfl)
theorem dX0_odds_1 : decode cX0_odds 1 = .ok (.iload_n 1, 1) := dk_27 (dk_at dksX0_odds_0 1 rfl rfl)
theorem dX0_odds_2 : decode cX0_odds 2 = .ok (.iload_n 2, 1) := dk_28 (dk_at dksX0_odds_0 2 rfl rfl)
theorem dX0_odds_3 : decode cX0_odds 3 = .ok (.invokevirtual 185, 3) := dk_182 0 185 (dk_at dksX0_odds_0 3 rfl rfl)
theorem dX0_odds_6 : decode cX0_odds 6 = .ok (.istore_n 3, 1) := dk_62 (dk_at dksX0_odds_0 6 rfl rfl)
theorem dX0_odds_7 : decode cX0_odds 7 = .ok (.iload_n 3, 1) := dk_29 (dk_at dksX0_odds_0 7 rfl rfl)
theorem dX0_odds_8 : decode cX0_odds 8 = .ok (.ifCond .ge 5, 3) := dk_156 0 5 (dk_at dksX0_odds_0 8 rfl rfl)
theorem dX0_odds_11 : decode cX0_odds 11 = .ok (.iload_n 3, 1) := dk_29 (dk_at dksX0_odds_0 11 rfl rfl)
theorem dX0_odds_12 : decode cX0_odds 12 = .ok (.ireturn, 1) := dk_172 (dk_at dksX0_odds_0 12 rfl rfl)
theorem dX0_odds_13 : decode cX0_odds 13 = .ok (.aload_n 0, 1) := dk_42 (dk_at dksX0_odds_0 13 rfl rfl)
theorem dX0_odds_14 : decode cX0_odds 14 = .ok (.iload_n 2, 1) := dk_28 (dk_at dksX0_odds_0 14 rfl rfl)
theorem dX0_odds_15 : decode cX0_odds 15 = .ok (.invokevirtual 188, 3) := dk_182 0 188 (dk_at dksX0_odds_0 15 rfl rfl)
theorem dX0_odds_18 : decode cX0_odds 18 = .ok (.arraylength, 1) := dk_190 (dk_at dksX0_odds_0 18 rfl rfl)
theorem dX0_odds_19 : decode cX0_odds 19 = .ok (.aload_n 0, 1) := dk_42 (dk_at dksX0_odds_0 19 rfl rfl)
theorem dX0_odds_20 : decode cX0_odds 20 = .ok (.iload_n 1, 1) := dk_27 (dk_at dksX0_odds_0 20 rfl rfl)
theorem dX0_odds_21 : decode cX0_odds 21 = .ok (.invokevirtual 188, 3) := dk_182 0 188 (dk_at dksX0_odds_0 21 rfl rfl)
theorem dX0_odds_24 : decode cX0_odds 24 = .ok (.arraylength, 1) := dk_190 (dk_at dksX0_odds_1 0 rfl rfl)
theorem dX0_odds_25 : decode cX0_odds 25 = .ok (.if_icmp .le 9, 3) := dk_164 0 9 (dk_at dksX0_odds_1 1 rfl rfl)
theorem dX0_odds_28 : decode cX0_odds 28 = .ok (.aload_n 0, 1) := dk_42 (dk_at dksX0_odds_1 4 rfl rfl)
theorem dX0_odds_29 : decode cX0_odds 29 = .ok (.iconst 4, 1) := dk_7 (dk_at dksX0_odds_1 5 rfl rfl)
theorem dX0_odds_30 : decode cX0_odds 30 = .ok (.invokevirtual 103, 3) := dk_182 0 103 (dk_at dksX0_odds_1 6 rfl rfl)
theorem dX0_odds_33 : decode cX0_odds 33 = .ok (.ireturn, 1) := dk_172 (dk_at dksX0_odds_1 9 rfl rfl)
theorem dX0_odds_34 : decode cX0_odds 34 = .ok (.aload_n 0, 1) := dk_42 (dk_at dksX0_odds_1 10 rfl rfl)
theorem dX0_odds_35 : decode cX0_odds 35 = .ok (.aload_n 0, 1) := dk_42 (dk_at dksX0_odds_1 11 rfl rfl)
theorem dX0_odds_36 : decode cX0_odds 36 = .ok (.iload_n 1, 1) := dk_27 (dk_at dksX0_odds_1 12 rfl rfl)
theorem dX0_odds_37 : decode cX0_odds 37 = .ok (.invokevirtual 188, 3) := dk_182 0 188 (dk_at dksX0_odds_1 13 rfl rfl)
theorem dX0_odds_40 : decode cX0_odds 40 = .ok (.aload_n 0, 1) := dk_42 (dk_at dksX0_odds_1 16 rfl rfl)
theorem dX0_odds_41 : decode cX0_odds 41 = .ok (.iload_n 2, 1) := dk_28 (dk_at dksX0_odds_1 17 rfl rfl)
theorem dX0_odds_42 : decode cX0_odds 42 = .ok (.invokevirtual 188, 3) := dk_182 0 188 (dk_at dksX0_odds_1 18 rfl rfl)
theorem dX0_odds_45 : decode cX0_odds 45 = .ok (.invokestatic 227, 3) := dk_184 0 227 (dk_at dksX0_odds_1 21 rfl rfl)
theorem dX0_odds_48 : decode cX0_odds 48 = .ok (.aload_n 0, 1) := dk_42 (dk_at dksX0_odds_2 0 rfl rfl)
theorem dX0_odds_49 : decode cX0_odds 49 = .ok (.iload_n 1, 1) := dk_27 (dk_at dksX0_odds_2 1 rfl rfl)
theorem dX0_odds_50 : decode cX0_odds 50 = .ok (.invokevirtual 188, 3) := dk_182 0 188 (dk_at dksX0_odds_2 2 rfl rfl)
theorem dX0_odds_53 : decode cX0_odds 53 = .ok (.arraylength, 1) := dk_190 (dk_at dksX0_odds_2 5 rfl rfl)
theorem dX0_odds_54 : decode cX0_odds 54 = .ok (.aload_n 0, 1) := dk_42 (dk_at dksX0_odds_2 6 rfl rfl)
theorem dX0_odds_55 : decode cX0_odds 55 = .ok (.iload_n 2, 1) := dk_28 (dk_at dksX0_odds_2 7 rfl rfl)
theorem dX0_odds_56 : decode cX0_odds 56 = .ok (.invokevirtual 188, 3) := dk_182 0 188 (dk_at dksX0_odds_2 8 rfl rfl)
theorem dX0_odds_59 : decode cX0_odds 59 = .ok (.arraylength, 1) := dk_190 (dk_at dksX0_odds_2 11 rfl rfl)
theorem dX0_odds_60 : decode cX0_odds 60 = .ok (.invokestatic 306, 3) := dk_184 1 50 (dk_at dksX0_odds_2 12 rfl rfl)
theorem dX0_odds_63 : decode cX0_odds 63 = .ok (.iconst 1, 1) := dk_4 (dk_at dksX0_odds_2 15 rfl rfl)
theorem dX0_odds_64 : decode cX0_odds 64 = .ok (.invokevirtual 310, 3) := dk_182 1 54 (dk_at dksX0_odds_2 16 rfl rfl)
theorem dX0_odds_67 : decode cX0_odds 67 = .ok (.ireturn, 1) := dk_172 (dk_at dksX0_odds_2 19 rfl rfl)
abbrev cX0_choose : ByteArray := prog_1_method_74_code
def yX0_choose : MethodName := ⟨RX0, "choose", "(II)J"⟩
def dkwX0_choose_1 : List UInt8 := [65, 132, 4, 1, 167, 255, 233, 32, 173]
abbrev dktX0_choose_1 : List UInt8 := dkwX0_choose_1 ++ []
def dkwX0_choose_0 : List UInt8 := [10, 65, 4, 54, 4, 21, 4, 27, 163, 0, 23, 32, 26, 21, 4, 100, 4, 96, 133, 105, 21, 4, 133, 109]
abbrev dktX0_choose_0 : List UInt8 := dkwX0_choose_0 ++ dktX0_choose_1
theorem dksX0_choose_0 : cX0_choose.data.toList.drop 0 = dktX0_choose_0 := by decide +kernel
theorem dksX0_choose_1 : cX0_choose.data.toList.drop 24 = dktX0_choose_1 := dk_seg dksX0_choose_0 24 rfl rfl
theorem dX0_choose_0 : decode cX0_choose 0 = .ok (.lconst 1, 1) := dk_10 (dk_at dksX0_choose_0 0 rfl rfl)
theorem dX0_choose_1 : decode cX0_choose 1 = .ok (.lstore_n 2, 1) := dk_65 (dk_at dksX0_choose_0 1 rfl rfl)
theorem dX0_choose_2 : decode cX0_choose 2 = .ok (.iconst 1, 1) := dk_4 (dk_at dksX0_choose_0 2 rfl rfl)
theorem dX0_choose_3 : decode cX0_choose 3 = .ok (.istore 4, 2) := dk_54 4 (dk_at dksX0_choose_0 3 rfl rfl)
theorem dX0_choose_5 : decode cX0_choose 5 = .ok (.iload 4, 2) := dk_21 4 (dk_at dksX0_choose_0 5 rfl rfl)
theorem dX0_choose_7 : decode cX0_choose 7 = .ok (.iload_n 1, 1) := dk_27 (dk_at dksX0_choose_0 7 rfl rfl)
theorem dX0_choose_8 : decode cX0_choose 8 = .ok (.if_icmp .gt 23, 3) := dk_163 0 23 (dk_at dksX0_choose_0 8 rfl rfl)
theorem dX0_choose_11 : decode cX0_choose 11 = .ok (.lload_n 2, 1) := dk_32 (dk_at dksX0_choose_0 11 rfl rfl)
theorem dX0_choose_12 : decode cX0_choose 12 = .ok (.iload_n 0, 1) := dk_26 (dk_at dksX0_choose_0 12 rfl rfl)
theorem dX0_choose_13 : decode cX0_choose 13 = .ok (.iload 4, 2) := dk_21 4 (dk_at dksX0_choose_0 13 rfl rfl)
theorem dX0_choose_15 : decode cX0_choose 15 = .ok (.isub, 1) := dk_100 (dk_at dksX0_choose_0 15 rfl rfl)
theorem dX0_choose_16 : decode cX0_choose 16 = .ok (.iconst 1, 1) := dk_4 (dk_at dksX0_choose_0 16 rfl rfl)
theorem dX0_choose_17 : decode cX0_choose 17 = .ok (.iadd, 1) := dk_96 (dk_at dksX0_choose_0 17 rfl rfl)
theorem dX0_choose_18 : decode cX0_choose 18 = .ok (.i2l, 1) := dk_133 (dk_at dksX0_choose_0 18 rfl rfl)
theorem dX0_choose_19 : decode cX0_choose 19 = .ok (.lmul, 1) := dk_105 (dk_at dksX0_choose_0 19 rfl rfl)
theorem dX0_choose_20 : decode cX0_choose 20 = .ok (.iload 4, 2) := dk_21 4 (dk_at dksX0_choose_0 20 rfl rfl)
theorem dX0_choose_22 : decode cX0_choose 22 = .ok (.i2l, 1) := dk_133 (dk_at dksX0_choose_0 22 rfl rfl)
theorem dX0_choose_23 : decode cX0_choose 23 = .ok (.ldiv, 1) := dk_109 (dk_at dksX0_choose_0 23 rfl rfl)
theorem dX0_choose_24 : decode cX0_choose 24 = .ok (.lstore_n 2, 1) := dk_65 (dk_at dksX0_choose_1 0 rfl rfl)
theorem dX0_choose_25 : decode cX0_choose 25 = .ok (.iinc 4 1, 3) := dk_132 4 1 (dk_at dksX0_choose_1 1 rfl rfl)
theorem dX0_choose_28 : decode cX0_choose 28 = .ok (.goto (-23), 3) := dk_167 255 233 (dk_at dksX0_choose_1 4 rfl rfl)
theorem dX0_choose_31 : decode cX0_choose 31 = .ok (.lload_n 2, 1) := dk_32 (dk_at dksX0_choose_1 7 rfl rfl)
theorem dX0_choose_32 : decode cX0_choose 32 = .ok (.lreturn, 1) := dk_173 (dk_at dksX0_choose_1 8 rfl rfl)
abbrev cX0_share : ByteArray := prog_1_method_5_code
def yX0_share : MethodName := ⟨RX0, "share", "(JJI)I"⟩
def dkwX0_share_2 : List UInt8 := [21, 5, 172]
abbrev dktX0_share_2 : List UInt8 := dkwX0_share_2 ++ []
def dkwX0_share_1 : List UInt8 := [22, 10, 55, 8, 167, 255, 234, 42, 31, 22, 6, 109, 181, 0, 18, 42, 33, 22, 6, 109, 181, 0, 21]
abbrev dktX0_share_1 : List UInt8 := dkwX0_share_1 ++ dktX0_share_2
def dkwX0_share_0 : List UInt8 := [31, 55, 6, 33, 55, 8, 22, 8, 9, 148, 153, 0, 21, 22, 6, 22, 8, 113, 55, 10, 22, 8, 55, 6]
abbrev dktX0_share_0 : List UInt8 := dkwX0_share_0 ++ dktX0_share_1
theorem dksX0_share_0 : cX0_share.data.toList.drop 0 = dktX0_share_0 := by decide +kernel
theorem dksX0_share_1 : cX0_share.data.toList.drop 24 = dktX0_share_1 := dk_seg dksX0_share_0 24 rfl rfl
theorem dksX0_share_2 : cX0_share.data.toList.drop 47 = dktX0_share_2 := dk_seg dksX0_share_1 23 rfl rfl
theorem dX0_share_0 : decode cX0_share 0 = .ok (.lload_n 1, 1) := dk_31 (dk_at dksX0_share_0 0 rfl rfl)
theorem dX0_share_1 : decode cX0_share 1 = .ok (.lstore 6, 2) := dk_55 6 (dk_at dksX0_share_0 1 rfl rfl)
theorem dX0_share_3 : decode cX0_share 3 = .ok (.lload_n 3, 1) := dk_33 (dk_at dksX0_share_0 3 rfl rfl)
theorem dX0_share_4 : decode cX0_share 4 = .ok (.lstore 8, 2) := dk_55 8 (dk_at dksX0_share_0 4 rfl rfl)
theorem dX0_share_6 : decode cX0_share 6 = .ok (.lload 8, 2) := dk_22 8 (dk_at dksX0_share_0 6 rfl rfl)
theorem dX0_share_8 : decode cX0_share 8 = .ok (.lconst 0, 1) := dk_9 (dk_at dksX0_share_0 8 rfl rfl)
theorem dX0_share_9 : decode cX0_share 9 = .ok (.lcmp, 1) := dk_148 (dk_at dksX0_share_0 9 rfl rfl)
theorem dX0_share_10 : decode cX0_share 10 = .ok (.ifCond .eq 21, 3) := dk_153 0 21 (dk_at dksX0_share_0 10 rfl rfl)
theorem dX0_share_13 : decode cX0_share 13 = .ok (.lload 6, 2) := dk_22 6 (dk_at dksX0_share_0 13 rfl rfl)
theorem dX0_share_15 : decode cX0_share 15 = .ok (.lload 8, 2) := dk_22 8 (dk_at dksX0_share_0 15 rfl rfl)
theorem dX0_share_17 : decode cX0_share 17 = .ok (.lrem, 1) := dk_113 (dk_at dksX0_share_0 17 rfl rfl)
theorem dX0_share_18 : decode cX0_share 18 = .ok (.lstore 10, 2) := dk_55 10 (dk_at dksX0_share_0 18 rfl rfl)
theorem dX0_share_20 : decode cX0_share 20 = .ok (.lload 8, 2) := dk_22 8 (dk_at dksX0_share_0 20 rfl rfl)
theorem dX0_share_22 : decode cX0_share 22 = .ok (.lstore 6, 2) := dk_55 6 (dk_at dksX0_share_0 22 rfl rfl)
theorem dX0_share_24 : decode cX0_share 24 = .ok (.lload 10, 2) := dk_22 10 (dk_at dksX0_share_1 0 rfl rfl)
theorem dX0_share_26 : decode cX0_share 26 = .ok (.lstore 8, 2) := dk_55 8 (dk_at dksX0_share_1 2 rfl rfl)
theorem dX0_share_28 : decode cX0_share 28 = .ok (.goto (-22), 3) := dk_167 255 234 (dk_at dksX0_share_1 4 rfl rfl)
theorem dX0_share_31 : decode cX0_share 31 = .ok (.aload_n 0, 1) := dk_42 (dk_at dksX0_share_1 7 rfl rfl)
theorem dX0_share_32 : decode cX0_share 32 = .ok (.lload_n 1, 1) := dk_31 (dk_at dksX0_share_1 8 rfl rfl)
theorem dX0_share_33 : decode cX0_share 33 = .ok (.lload 6, 2) := dk_22 6 (dk_at dksX0_share_1 9 rfl rfl)
theorem dX0_share_35 : decode cX0_share 35 = .ok (.ldiv, 1) := dk_109 (dk_at dksX0_share_1 11 rfl rfl)
theorem dX0_share_36 : decode cX0_share 36 = .ok (.putfield 18, 3) := dk_181 0 18 (dk_at dksX0_share_1 12 rfl rfl)
theorem dX0_share_39 : decode cX0_share 39 = .ok (.aload_n 0, 1) := dk_42 (dk_at dksX0_share_1 15 rfl rfl)
theorem dX0_share_40 : decode cX0_share 40 = .ok (.lload_n 3, 1) := dk_33 (dk_at dksX0_share_1 16 rfl rfl)
theorem dX0_share_41 : decode cX0_share 41 = .ok (.lload 6, 2) := dk_22 6 (dk_at dksX0_share_1 17 rfl rfl)
theorem dX0_share_43 : decode cX0_share 43 = .ok (.ldiv, 1) := dk_109 (dk_at dksX0_share_1 19 rfl rfl)
theorem dX0_share_44 : decode cX0_share 44 = .ok (.putfield 21, 3) := dk_181 0 21 (dk_at dksX0_share_1 20 rfl rfl)
theorem dX0_share_47 : decode cX0_share 47 = .ok (.iload 5, 2) := dk_21 5 (dk_at dksX0_share_2 0 rfl rfl)
theorem dX0_share_49 : decode cX0_share 49 = .ok (.ireturn, 1) := dk_172 (dk_at dksX0_share_2 2 rfl rfl)
abbrev cX0_byChance : ByteArray := prog_1_method_76_code
def yX0_byChance : MethodName := ⟨RX0, "byChance", "(II)I"⟩
def dkwX0_byChance_6 : List UInt8 := [182, 1, 54, 172]
abbrev dktX0_byChance_6 : List UInt8 := dkwX0_byChance_6 ++ []
def dkwX0_byChance_5 : List UInt8 := [180, 0, 30, 133, 105, 55, 5, 132, 8, 1, 167, 255, 177, 42, 25, 7, 21, 4, 47, 22, 5, 4]
abbrev dktX0_byChance_5 : List UInt8 := dkwX0_byChance_5 ++ dktX0_byChance_6
def dkwX0_byChance_4 : List UInt8 := [25, 7, 21, 9, 92, 47, 42, 180, 0, 30, 4, 100, 133, 105, 80, 132, 9, 255, 167, 255, 218, 22, 5, 42]
abbrev dktX0_byChance_4 : List UInt8 := dkwX0_byChance_4 ++ dktX0_byChance_5
def dkwX0_byChance_3 : List UInt8 := [4, 100, 54, 9, 21, 9, 155, 0, 39, 25, 7, 21, 9, 4, 96, 92, 47, 25, 7, 21, 9, 47, 97, 80]
abbrev dktX0_byChance_3 : List UInt8 := dkwX0_byChance_3 ++ dktX0_byChance_4
def dkwX0_byChance_2 : List UInt8 := [3, 54, 8, 21, 8, 28, 162, 0, 79, 25, 7, 21, 4, 92, 47, 42, 180, 0, 30, 133, 105, 80, 21, 4]
abbrev dktX0_byChance_2 : List UInt8 := dkwX0_byChance_2 ++ dktX0_byChance_3
def dkwX0_byChance_1 : List UInt8 := [42, 27, 182, 0, 188, 190, 54, 4, 10, 55, 5, 21, 4, 4, 96, 188, 11, 58, 7, 25, 7, 3, 10, 80]
abbrev dktX0_byChance_1 : List UInt8 := dkwX0_byChance_1 ++ dktX0_byChance_2
def dkwX0_byChance_0 : List UInt8 := [28, 3, 16, 20, 184, 0, 93, 154, 0, 5, 2, 172, 42, 27, 182, 0, 195, 62, 29, 156, 0, 5, 29, 172]
abbrev dktX0_byChance_0 : List UInt8 := dkwX0_byChance_0 ++ dktX0_byChance_1
theorem dksX0_byChance_0 : cX0_byChance.data.toList.drop 0 = dktX0_byChance_0 := by decide +kernel
theorem dksX0_byChance_1 : cX0_byChance.data.toList.drop 24 = dktX0_byChance_1 := dk_seg dksX0_byChance_0 24 rfl rfl
theorem dksX0_byChance_2 : cX0_byChance.data.toList.drop 48 = dktX0_byChance_2 := dk_seg dksX0_byChance_1 24 rfl rfl
theorem dksX0_byChance_3 : cX0_byChance.data.toList.drop 72 = dktX0_byChance_3 := dk_seg dksX0_byChance_2 24 rfl rfl
theorem dksX0_byChance_4 : cX0_byChance.data.toList.drop 96 = dktX0_byChance_4 := dk_seg dksX0_byChance_3 24 rfl rfl
theorem dksX0_byChance_5 : cX0_byChance.data.toList.drop 120 = dktX0_byChance_5 := dk_seg dksX0_byChance_4 24 rfl rfl
theorem dksX0_byChance_6 : cX0_byChance.data.toList.drop 142 = dktX0_byChance_6 := dk_seg dksX0_byChance_5 22 rfl rfl
theorem dX0_byChance_0 : decode cX0_byChance 0 = .ok (.iload_n 2, 1) := dk_28 (dk_at dksX0_byChance_0 0 rfl rfl)
theorem dX0_byChance_1 : decode cX0_byChance 1 = .ok (.iconst 0, 1) := dk_3 (dk_at dksX0_byChance_0 1 rfl rfl)
theorem dX0_byChance_2 : decode cX0_byChance 2 = .ok (.bipush 20, 2) := dk_16 20 (dk_at dksX0_byChance_0 2 rfl rfl)
theorem dX0_byChance_4 : decode cX0_byChance 4 = .ok (.invokestatic 93, 3) := dk_184 0 93 (dk_at dksX0_byChance_0 4 rfl rfl)
theorem dX0_byChance_7 : decode cX0_byChance 7 = .ok (.ifCond .ne 5, 3) := dk_154 0 5 (dk_at dksX0_byChance_0 7 rfl rfl)
theorem dX0_byChance_10 : decode cX0_byChance 10 = .ok (.iconst (-1), 1) := dk_2 (dk_at dksX0_byChance_0 10 rfl rfl)
theorem dX0_byChance_11 : decode cX0_byChance 11 = .ok (.ireturn, 1) := dk_172 (dk_at dksX0_byChance_0 11 rfl rfl)
theorem dX0_byChance_12 : decode cX0_byChance 12 = .ok (.aload_n 0, 1) := dk_42 (dk_at dksX0_byChance_0 12 rfl rfl)
theorem dX0_byChance_13 : decode cX0_byChance 13 = .ok (.iload_n 1, 1) := dk_27 (dk_at dksX0_byChance_0 13 rfl rfl)
theorem dX0_byChance_14 : decode cX0_byChance 14 = .ok (.invokevirtual 195, 3) := dk_182 0 195 (dk_at dksX0_byChance_0 14 rfl rfl)
theorem dX0_byChance_17 : decode cX0_byChance 17 = .ok (.istore_n 3, 1) := dk_62 (dk_at dksX0_byChance_0 17 rfl rfl)
theorem dX0_byChance_18 : decode cX0_byChance 18 = .ok (.iload_n 3, 1) := dk_29 (dk_at dksX0_byChance_0 18 rfl rfl)
theorem dX0_byChance_19 : decode cX0_byChance 19 = .ok (.ifCond .ge 5, 3) := dk_156 0 5 (dk_at dksX0_byChance_0 19 rfl rfl)
theorem dX0_byChance_22 : decode cX0_byChance 22 = .ok (.iload_n 3, 1) := dk_29 (dk_at dksX0_byChance_0 22 rfl rfl)
theorem dX0_byChance_23 : decode cX0_byChance 23 = .ok (.ireturn, 1) := dk_172 (dk_at dksX0_byChance_0 23 rfl rfl)
theorem dX0_byChance_24 : decode cX0_byChance 24 = .ok (.aload_n 0, 1) := dk_42 (dk_at dksX0_byChance_1 0 rfl rfl)
theorem dX0_byChance_25 : decode cX0_byChance 25 = .ok (.iload_n 1, 1) := dk_27 (dk_at dksX0_byChance_1 1 rfl rfl)
theorem dX0_byChance_26 : decode cX0_byChance 26 = .ok (.invokevirtual 188, 3) := dk_182 0 188 (dk_at dksX0_byChance_1 2 rfl rfl)
theorem dX0_byChance_29 : decode cX0_byChance 29 = .ok (.arraylength, 1) := dk_190 (dk_at dksX0_byChance_1 5 rfl rfl)
theorem dX0_byChance_30 : decode cX0_byChance 30 = .ok (.istore 4, 2) := dk_54 4 (dk_at dksX0_byChance_1 6 rfl rfl)
theorem dX0_byChance_32 : decode cX0_byChance 32 = .ok (.lconst 1, 1) := dk_10 (dk_at dksX0_byChance_1 8 rfl rfl)
theorem dX0_byChance_33 : decode cX0_byChance 33 = .ok (.lstore 5, 2) := dk_55 5 (dk_at dksX0_byChance_1 9 rfl rfl)
theorem dX0_byChance_35 : decode cX0_byChance 35 = .ok (.iload 4, 2) := dk_21 4 (dk_at dksX0_byChance_1 11 rfl rfl)
theorem dX0_byChance_37 : decode cX0_byChance 37 = .ok (.iconst 1, 1) := dk_4 (dk_at dksX0_byChance_1 13 rfl rfl)
theorem dX0_byChance_38 : decode cX0_byChance 38 = .ok (.iadd, 1) := dk_96 (dk_at dksX0_byChance_1 14 rfl rfl)
theorem dX0_byChance_39 : decode cX0_byChance 39 = .ok (.newarray .long, 2) := dk_188_11 (dk_at dksX0_byChance_1 15 rfl rfl)
theorem dX0_byChance_41 : decode cX0_byChance 41 = .ok (.astore 7, 2) := dk_58 7 (dk_at dksX0_byChance_1 17 rfl rfl)
theorem dX0_byChance_43 : decode cX0_byChance 43 = .ok (.aload 7, 2) := dk_25 7 (dk_at dksX0_byChance_1 19 rfl rfl)
theorem dX0_byChance_45 : decode cX0_byChance 45 = .ok (.iconst 0, 1) := dk_3 (dk_at dksX0_byChance_1 21 rfl rfl)
theorem dX0_byChance_46 : decode cX0_byChance 46 = .ok (.lconst 1, 1) := dk_10 (dk_at dksX0_byChance_1 22 rfl rfl)
theorem dX0_byChance_47 : decode cX0_byChance 47 = .ok (.lastore, 1) := dk_80 (dk_at dksX0_byChance_1 23 rfl rfl)
theorem dX0_byChance_48 : decode cX0_byChance 48 = .ok (.iconst 0, 1) := dk_3 (dk_at dksX0_byChance_2 0 rfl rfl)
theorem dX0_byChance_49 : decode cX0_byChance 49 = .ok (.istore 8, 2) := dk_54 8 (dk_at dksX0_byChance_2 1 rfl rfl)
theorem dX0_byChance_51 : decode cX0_byChance 51 = .ok (.iload 8, 2) := dk_21 8 (dk_at dksX0_byChance_2 3 rfl rfl)
theorem dX0_byChance_53 : decode cX0_byChance 53 = .ok (.iload_n 2, 1) := dk_28 (dk_at dksX0_byChance_2 5 rfl rfl)
theorem dX0_byChance_54 : decode cX0_byChance 54 = .ok (.if_icmp .ge 79, 3) := dk_162 0 79 (dk_at dksX0_byChance_2 6 rfl rfl)
theorem dX0_byChance_57 : decode cX0_byChance 57 = .ok (.aload 7, 2) := dk_25 7 (dk_at dksX0_byChance_2 9 rfl rfl)
theorem dX0_byChance_59 : decode cX0_byChance 59 = .ok (.iload 4, 2) := dk_21 4 (dk_at dksX0_byChance_2 11 rfl rfl)
theorem dX0_byChance_61 : decode cX0_byChance 61 = .ok (.dup2, 1) := dk_92 (dk_at dksX0_byChance_2 13 rfl rfl)
theorem dX0_byChance_62 : decode cX0_byChance 62 = .ok (.laload, 1) := dk_47 (dk_at dksX0_byChance_2 14 rfl rfl)
theorem dX0_byChance_63 : decode cX0_byChance 63 = .ok (.aload_n 0, 1) := dk_42 (dk_at dksX0_byChance_2 15 rfl rfl)
theorem dX0_byChance_64 : decode cX0_byChance 64 = .ok (.getfield 30, 3) := dk_180 0 30 (dk_at dksX0_byChance_2 16 rfl rfl)
theorem dX0_byChance_67 : decode cX0_byChance 67 = .ok (.i2l, 1) := dk_133 (dk_at dksX0_byChance_2 19 rfl rfl)
theorem dX0_byChance_68 : decode cX0_byChance 68 = .ok (.lmul, 1) := dk_105 (dk_at dksX0_byChance_2 20 rfl rfl)
theorem dX0_byChance_69 : decode cX0_byChance 69 = .ok (.lastore, 1) := dk_80 (dk_at dksX0_byChance_2 21 rfl rfl)
theorem dX0_byChance_70 : decode cX0_byChance 70 = .ok (.iload 4, 2) := dk_21 4 (dk_at dksX0_byChance_2 22 rfl rfl)
theorem dX0_byChance_72 : decode cX0_byChance 72 = .ok (.iconst 1, 1) := dk_4 (dk_at dksX0_byChance_3 0 rfl rfl)
theorem dX0_byChance_73 : decode cX0_byChance 73 = .ok (.isub, 1) := dk_100 (dk_at dksX0_byChance_3 1 rfl rfl)
theorem dX0_byChance_74 : decode cX0_byChance 74 = .ok (.istore 9, 2) := dk_54 9 (dk_at dksX0_byChance_3 2 rfl rfl)
theorem dX0_byChance_76 : decode cX0_byChance 76 = .ok (.iload 9, 2) := dk_21 9 (dk_at dksX0_byChance_3 4 rfl rfl)
theorem dX0_byChance_78 : decode cX0_byChance 78 = .ok (.ifCond .lt 39, 3) := dk_155 0 39 (dk_at dksX0_byChance_3 6 rfl rfl)
theorem dX0_byChance_81 : decode cX0_byChance 81 = .ok (.aload 7, 2) := dk_25 7 (dk_at dksX0_byChance_3 9 rfl rfl)
theorem dX0_byChance_83 : decode cX0_byChance 83 = .ok (.iload 9, 2) := dk_21 9 (dk_at dksX0_byChance_3 11 rfl rfl)
theorem dX0_byChance_85 : decode cX0_byChance 85 = .ok (.iconst 1, 1) := dk_4 (dk_at dksX0_byChance_3 13 rfl rfl)
theorem dX0_byChance_86 : decode cX0_byChance 86 = .ok (.iadd, 1) := dk_96 (dk_at dksX0_byChance_3 14 rfl rfl)
theorem dX0_byChance_87 : decode cX0_byChance 87 = .ok (.dup2, 1) := dk_92 (dk_at dksX0_byChance_3 15 rfl rfl)
theorem dX0_byChance_88 : decode cX0_byChance 88 = .ok (.laload, 1) := dk_47 (dk_at dksX0_byChance_3 16 rfl rfl)
theorem dX0_byChance_89 : decode cX0_byChance 89 = .ok (.aload 7, 2) := dk_25 7 (dk_at dksX0_byChance_3 17 rfl rfl)
theorem dX0_byChance_91 : decode cX0_byChance 91 = .ok (.iload 9, 2) := dk_21 9 (dk_at dksX0_byChance_3 19 rfl rfl)
theorem dX0_byChance_93 : decode cX0_byChance 93 = .ok (.laload, 1) := dk_47 (dk_at dksX0_byChance_3 21 rfl rfl)
theorem dX0_byChance_94 : decode cX0_byChance 94 = .ok (.ladd, 1) := dk_97 (dk_at dksX0_byChance_3 22 rfl rfl)
theorem dX0_byChance_95 : decode cX0_byChance 95 = .ok (.lastore, 1) := dk_80 (dk_at dksX0_byChance_3 23 rfl rfl)
theorem dX0_byChance_96 : decode cX0_byChance 96 = .ok (.aload 7, 2) := dk_25 7 (dk_at dksX0_byChance_4 0 rfl rfl)
theorem dX0_byChance_98 : decode cX0_byChance 98 = .ok (.iload 9, 2) := dk_21 9 (dk_at dksX0_byChance_4 2 rfl rfl)
theorem dX0_byChance_100 : decode cX0_byChance 100 = .ok (.dup2, 1) := dk_92 (dk_at dksX0_byChance_4 4 rfl rfl)
theorem dX0_byChance_101 : decode cX0_byChance 101 = .ok (.laload, 1) := dk_47 (dk_at dksX0_byChance_4 5 rfl rfl)
theorem dX0_byChance_102 : decode cX0_byChance 102 = .ok (.aload_n 0, 1) := dk_42 (dk_at dksX0_byChance_4 6 rfl rfl)
theorem dX0_byChance_103 : decode cX0_byChance 103 = .ok (.getfield 30, 3) := dk_180 0 30 (dk_at dksX0_byChance_4 7 rfl rfl)
theorem dX0_byChance_106 : decode cX0_byChance 106 = .ok (.iconst 1, 1) := dk_4 (dk_at dksX0_byChance_4 10 rfl rfl)
theorem dX0_byChance_107 : decode cX0_byChance 107 = .ok (.isub, 1) := dk_100 (dk_at dksX0_byChance_4 11 rfl rfl)
theorem dX0_byChance_108 : decode cX0_byChance 108 = .ok (.i2l, 1) := dk_133 (dk_at dksX0_byChance_4 12 rfl rfl)
theorem dX0_byChance_109 : decode cX0_byChance 109 = .ok (.lmul, 1) := dk_105 (dk_at dksX0_byChance_4 13 rfl rfl)
theorem dX0_byChance_110 : decode cX0_byChance 110 = .ok (.lastore, 1) := dk_80 (dk_at dksX0_byChance_4 14 rfl rfl)
theorem dX0_byChance_111 : decode cX0_byChance 111 = .ok (.iinc 9 (-1), 3) := dk_132 9 255 (dk_at dksX0_byChance_4 15 rfl rfl)
theorem dX0_byChance_114 : decode cX0_byChance 114 = .ok (.goto (-38), 3) := dk_167 255 218 (dk_at dksX0_byChance_4 18 rfl rfl)
theorem dX0_byChance_117 : decode cX0_byChance 117 = .ok (.lload 5, 2) := dk_22 5 (dk_at dksX0_byChance_4 21 rfl rfl)
theorem dX0_byChance_119 : decode cX0_byChance 119 = .ok (.aload_n 0, 1) := dk_42 (dk_at dksX0_byChance_4 23 rfl rfl)
theorem dX0_byChance_120 : decode cX0_byChance 120 = .ok (.getfield 30, 3) := dk_180 0 30 (dk_at dksX0_byChance_5 0 rfl rfl)
theorem dX0_byChance_123 : decode cX0_byChance 123 = .ok (.i2l, 1) := dk_133 (dk_at dksX0_byChance_5 3 rfl rfl)
theorem dX0_byChance_124 : decode cX0_byChance 124 = .ok (.lmul, 1) := dk_105 (dk_at dksX0_byChance_5 4 rfl rfl)
theorem dX0_byChance_125 : decode cX0_byChance 125 = .ok (.lstore 5, 2) := dk_55 5 (dk_at dksX0_byChance_5 5 rfl rfl)
theorem dX0_byChance_127 : decode cX0_byChance 127 = .ok (.iinc 8 1, 3) := dk_132 8 1 (dk_at dksX0_byChance_5 7 rfl rfl)
theorem dX0_byChance_130 : decode cX0_byChance 130 = .ok (.goto (-79), 3) := dk_167 255 177 (dk_at dksX0_byChance_5 10 rfl rfl)
theorem dX0_byChance_133 : decode cX0_byChance 133 = .ok (.aload_n 0, 1) := dk_42 (dk_at dksX0_byChance_5 13 rfl rfl)
theorem dX0_byChance_134 : decode cX0_byChance 134 = .ok (.aload 7, 2) := dk_25 7 (dk_at dksX0_byChance_5 14 rfl rfl)
theorem dX0_byChance_136 : decode cX0_byChance 136 = .ok (.iload 4, 2) := dk_21 4 (dk_at dksX0_byChance_5 16 rfl rfl)
theorem dX0_byChance_138 : decode cX0_byChance 138 = .ok (.laload, 1) := dk_47 (dk_at dksX0_byChance_5 18 rfl rfl)
theorem dX0_byChance_139 : decode cX0_byChance 139 = .ok (.lload 5, 2) := dk_22 5 (dk_at dksX0_byChance_5 19 rfl rfl)
theorem dX0_byChance_141 : decode cX0_byChance 141 = .ok (.iconst 1, 1) := dk_4 (dk_at dksX0_byChance_5 21 rfl rfl)
theorem dX0_byChance_142 : decode cX0_byChance 142 = .ok (.invokevirtual 310, 3) := dk_182 1 54 (dk_at dksX0_byChance_6 0 rfl rfl)
theorem dX0_byChance_145 : decode cX0_byChance 145 = .ok (.ireturn, 1) := dk_172 (dk_at dksX0_byChance_6 3 rfl rfl)
abbrev cX0_asked : ByteArray := prog_1_method_77_code
def yX0_asked : MethodName := ⟨RX0, "asked", "()I"⟩
theorem dX0_asked_0 : decode cX0_asked 0 = .ok (.aload_n 0, 1) := by decide +kernel
theorem dX0_asked_1 : decode cX0_asked 1 = .ok (.getfield 11, 3) := by decide +kernel
theorem dX0_asked_4 : decode cX0_asked 4 = .ok (.ireturn, 1) := by decide +kernel
abbrev cX0_many : ByteArray := prog_1_method_78_code
def yX0_many : MethodName := ⟨RX0, "many", "()J"⟩
theorem dX0_many_0 : decode cX0_many 0 = .ok (.aload_n 0, 1) := by decide +kernel
theorem dX0_many_1 : decode cX0_many 1 = .ok (.getfield 14, 3) := by decide +kernel
theorem dX0_many_4 : decode cX0_many 4 = .ok (.lreturn, 1) := by decide +kernel
abbrev cX0_upper : ByteArray := prog_1_method_79_code
def yX0_upper : MethodName := ⟨RX0, "upper", "()J"⟩
theorem dX0_upper_0 : decode cX0_upper 0 = .ok (.aload_n 0, 1) := by decide +kernel
theorem dX0_upper_1 : decode cX0_upper 1 = .ok (.getfield 18, 3) := by decide +kernel
theorem dX0_upper_4 : decode cX0_upper 4 = .ok (.lreturn, 1) := by decide +kernel
abbrev cX0_lower : ByteArray := prog_1_method_80_code
def yX0_lower : MethodName := ⟨RX0, "lower", "()J"⟩
theorem dX0_lower_0 : decode cX0_lower 0 = .ok (.aload_n 0, 1) := by decide +kernel
theorem dX0_lower_1 : decode cX0_lower 1 = .ok (.getfield 21, 3) := by decide +kernel
theorem dX0_lower_4 : decode cX0_lower 4 = .ok (.lreturn, 1) := by decide +kernel
abbrev cX0_count : ByteArray := prog_1_method_86_code
def yX0_count : MethodName := ⟨RX0, "count", "(I)I"⟩
def dkwX0_count_0 : List UInt8 := [27, 3, 8, 184, 0, 93, 153, 0, 11, 42, 27, 182, 1, 73, 167, 0, 4, 2, 172]
abbrev dktX0_count_0 : List UInt8 := dkwX0_count_0 ++ []
theorem dksX0_count_0 : cX0_count.data.toList.drop 0 = dktX0_count_0 := by decide +kernel
theorem dX0_count_0 : decode cX0_count 0 = .ok (.iload_n 1, 1) := dk_27 (dk_at dksX0_count_0 0 rfl rfl)
theorem dX0_count_1 : decode cX0_count 1 = .ok (.iconst 0, 1) := dk_3 (dk_at dksX0_count_0 1 rfl rfl)
theorem dX0_count_2 : decode cX0_count 2 = .ok (.iconst 5, 1) := dk_8 (dk_at dksX0_count_0 2 rfl rfl)
theorem dX0_count_3 : decode cX0_count 3 = .ok (.invokestatic 93, 3) := dk_184 0 93 (dk_at dksX0_count_0 3 rfl rfl)
theorem dX0_count_6 : decode cX0_count 6 = .ok (.ifCond .eq 11, 3) := dk_153 0 11 (dk_at dksX0_count_0 6 rfl rfl)
theorem dX0_count_9 : decode cX0_count 9 = .ok (.aload_n 0, 1) := dk_42 (dk_at dksX0_count_0 9 rfl rfl)
theorem dX0_count_10 : decode cX0_count 10 = .ok (.iload_n 1, 1) := dk_27 (dk_at dksX0_count_0 10 rfl rfl)
theorem dX0_count_11 : decode cX0_count 11 = .ok (.invokevirtual 329, 3) := dk_182 1 73 (dk_at dksX0_count_0 11 rfl rfl)
theorem dX0_count_14 : decode cX0_count 14 = .ok (.goto 4, 3) := dk_167 0 4 (dk_at dksX0_count_0 14 rfl rfl)
theorem dX0_count_17 : decode cX0_count 17 = .ok (.iconst (-1), 1) := dk_2 (dk_at dksX0_count_0 17 rfl rfl)
theorem dX0_count_18 : decode cX0_count 18 = .ok (.ireturn, 1) := dk_172 (dk_at dksX0_count_0 18 rfl rfl)
abbrev cX0_countsOf : ByteArray := prog_1_method_85_code
def yX0_countsOf : MethodName := ⟨RX0, "countsOf", "(I)I"⟩
def dkwX0_countsOf_3 : List UInt8 := [182, 1, 67, 172, 42, 182, 1, 70, 172]
abbrev dktX0_countsOf_3 : List UInt8 := dkwX0_countsOf_3 ++ []
def dkwX0_countsOf_2 : List UInt8 := [42, 180, 0, 30, 172, 42, 182, 1, 61, 172, 42, 182, 1, 64, 172, 42, 3, 182, 1, 67, 172, 42, 5]
abbrev dktX0_countsOf_2 : List UInt8 := dkwX0_countsOf_2 ++ dktX0_countsOf_3
def dkwX0_countsOf_1 : List UInt8 := [170, 0, 0, 0, 0, 0, 62, 0, 0, 0, 0, 0, 0, 0, 4, 0, 0, 0, 35, 0, 0, 0, 40, 0, 0, 0, 45, 0, 0, 0, 50, 0, 0, 0, 56]
abbrev dktX0_countsOf_1 : List UInt8 := dkwX0_countsOf_1 ++ dktX0_countsOf_2
def dkwX0_countsOf_0 : List UInt8 := [27]
abbrev dktX0_countsOf_0 : List UInt8 := dkwX0_countsOf_0 ++ dktX0_countsOf_1
theorem dksX0_countsOf_0 : cX0_countsOf.data.toList.drop 0 = dktX0_countsOf_0 := by decide +kernel
theorem dksX0_countsOf_1 : cX0_countsOf.data.toList.drop 1 = dktX0_countsOf_1 := dk_seg dksX0_countsOf_0 1 rfl rfl
theorem dksX0_countsOf_2 : cX0_countsOf.data.toList.drop 36 = dktX0_countsOf_2 := dk_seg dksX0_countsOf_1 35 rfl rfl
theorem dksX0_countsOf_3 : cX0_countsOf.data.toList.drop 59 = dktX0_countsOf_3 := dk_seg dksX0_countsOf_2 23 rfl rfl
theorem dX0_countsOf_0 : decode cX0_countsOf 0 = .ok (.iload_n 1, 1) := dk_27 (dk_at dksX0_countsOf_0 0 rfl rfl)
theorem dX0_countsOf_1 : decode cX0_countsOf 1 = .ok (.tableswitch 62 0 4 #[35, 40, 45, 50, 56], 35) := by decide +kernel
theorem dX0_countsOf_36 : decode cX0_countsOf 36 = .ok (.aload_n 0, 1) := dk_42 (dk_at dksX0_countsOf_2 0 rfl rfl)
theorem dX0_countsOf_37 : decode cX0_countsOf 37 = .ok (.getfield 30, 3) := dk_180 0 30 (dk_at dksX0_countsOf_2 1 rfl rfl)
theorem dX0_countsOf_40 : decode cX0_countsOf 40 = .ok (.ireturn, 1) := dk_172 (dk_at dksX0_countsOf_2 4 rfl rfl)
theorem dX0_countsOf_41 : decode cX0_countsOf 41 = .ok (.aload_n 0, 1) := dk_42 (dk_at dksX0_countsOf_2 5 rfl rfl)
theorem dX0_countsOf_42 : decode cX0_countsOf 42 = .ok (.invokevirtual 317, 3) := dk_182 1 61 (dk_at dksX0_countsOf_2 6 rfl rfl)
theorem dX0_countsOf_45 : decode cX0_countsOf 45 = .ok (.ireturn, 1) := dk_172 (dk_at dksX0_countsOf_2 9 rfl rfl)
theorem dX0_countsOf_46 : decode cX0_countsOf 46 = .ok (.aload_n 0, 1) := dk_42 (dk_at dksX0_countsOf_2 10 rfl rfl)
theorem dX0_countsOf_47 : decode cX0_countsOf 47 = .ok (.invokevirtual 320, 3) := dk_182 1 64 (dk_at dksX0_countsOf_2 11 rfl rfl)
theorem dX0_countsOf_50 : decode cX0_countsOf 50 = .ok (.ireturn, 1) := dk_172 (dk_at dksX0_countsOf_2 14 rfl rfl)
theorem dX0_countsOf_51 : decode cX0_countsOf 51 = .ok (.aload_n 0, 1) := dk_42 (dk_at dksX0_countsOf_2 15 rfl rfl)
theorem dX0_countsOf_52 : decode cX0_countsOf 52 = .ok (.iconst 0, 1) := dk_3 (dk_at dksX0_countsOf_2 16 rfl rfl)
theorem dX0_countsOf_53 : decode cX0_countsOf 53 = .ok (.invokevirtual 323, 3) := dk_182 1 67 (dk_at dksX0_countsOf_2 17 rfl rfl)
theorem dX0_countsOf_56 : decode cX0_countsOf 56 = .ok (.ireturn, 1) := dk_172 (dk_at dksX0_countsOf_2 20 rfl rfl)
theorem dX0_countsOf_57 : decode cX0_countsOf 57 = .ok (.aload_n 0, 1) := dk_42 (dk_at dksX0_countsOf_2 21 rfl rfl)
theorem dX0_countsOf_58 : decode cX0_countsOf 58 = .ok (.iconst 2, 1) := dk_5 (dk_at dksX0_countsOf_2 22 rfl rfl)
theorem dX0_countsOf_59 : decode cX0_countsOf 59 = .ok (.invokevirtual 323, 3) := dk_182 1 67 (dk_at dksX0_countsOf_3 0 rfl rfl)
theorem dX0_countsOf_62 : decode cX0_countsOf 62 = .ok (.ireturn, 1) := dk_172 (dk_at dksX0_countsOf_3 3 rfl rfl)
theorem dX0_countsOf_63 : decode cX0_countsOf 63 = .ok (.aload_n 0, 1) := dk_42 (dk_at dksX0_countsOf_3 4 rfl rfl)
theorem dX0_countsOf_64 : decode cX0_countsOf 64 = .ok (.invokevirtual 326, 3) := dk_182 1 70 (dk_at dksX0_countsOf_3 5 rfl rfl)
theorem dX0_countsOf_67 : decode cX0_countsOf 67 = .ok (.ireturn, 1) := dk_172 (dk_at dksX0_countsOf_3 8 rfl rfl)
abbrev cX0_rowCount : ByteArray := prog_1_method_81_code
def yX0_rowCount : MethodName := ⟨RX0, "rowCount", "()I"⟩
def dkwX0_rowCount_1 : List UInt8 := [58, 5, 27, 25, 5, 199, 0, 7, 3, 167, 0, 4, 4, 96, 60, 132, 4, 1, 167, 255, 228, 27, 172]
abbrev dktX0_rowCount_1 : List UInt8 := dkwX0_rowCount_1 ++ []
def dkwX0_rowCount_0 : List UInt8 := [3, 60, 42, 180, 0, 34, 77, 44, 190, 62, 3, 54, 4, 21, 4, 29, 162, 0, 28, 44, 21, 4, 50]
abbrev dktX0_rowCount_0 : List UInt8 := dkwX0_rowCount_0 ++ dktX0_rowCount_1
theorem dksX0_rowCount_0 : cX0_rowCount.data.toList.drop 0 = dktX0_rowCount_0 := by decide +kernel
theorem dksX0_rowCount_1 : cX0_rowCount.data.toList.drop 23 = dktX0_rowCount_1 := dk_seg dksX0_rowCount_0 23 rfl rfl
theorem dX0_rowCount_0 : decode cX0_rowCount 0 = .ok (.iconst 0, 1) := dk_3 (dk_at dksX0_rowCount_0 0 rfl rfl)
theorem dX0_rowCount_1 : decode cX0_rowCount 1 = .ok (.istore_n 1, 1) := dk_60 (dk_at dksX0_rowCount_0 1 rfl rfl)
theorem dX0_rowCount_2 : decode cX0_rowCount 2 = .ok (.aload_n 0, 1) := dk_42 (dk_at dksX0_rowCount_0 2 rfl rfl)
theorem dX0_rowCount_3 : decode cX0_rowCount 3 = .ok (.getfield 34, 3) := dk_180 0 34 (dk_at dksX0_rowCount_0 3 rfl rfl)
theorem dX0_rowCount_6 : decode cX0_rowCount 6 = .ok (.astore_n 2, 1) := dk_77 (dk_at dksX0_rowCount_0 6 rfl rfl)
theorem dX0_rowCount_7 : decode cX0_rowCount 7 = .ok (.aload_n 2, 1) := dk_44 (dk_at dksX0_rowCount_0 7 rfl rfl)
theorem dX0_rowCount_8 : decode cX0_rowCount 8 = .ok (.arraylength, 1) := dk_190 (dk_at dksX0_rowCount_0 8 rfl rfl)
theorem dX0_rowCount_9 : decode cX0_rowCount 9 = .ok (.istore_n 3, 1) := dk_62 (dk_at dksX0_rowCount_0 9 rfl rfl)
theorem dX0_rowCount_10 : decode cX0_rowCount 10 = .ok (.iconst 0, 1) := dk_3 (dk_at dksX0_rowCount_0 10 rfl rfl)
theorem dX0_rowCount_11 : decode cX0_rowCount 11 = .ok (.istore 4, 2) := dk_54 4 (dk_at dksX0_rowCount_0 11 rfl rfl)
theorem dX0_rowCount_13 : decode cX0_rowCount 13 = .ok (.iload 4, 2) := dk_21 4 (dk_at dksX0_rowCount_0 13 rfl rfl)
theorem dX0_rowCount_15 : decode cX0_rowCount 15 = .ok (.iload_n 3, 1) := dk_29 (dk_at dksX0_rowCount_0 15 rfl rfl)
theorem dX0_rowCount_16 : decode cX0_rowCount 16 = .ok (.if_icmp .ge 28, 3) := dk_162 0 28 (dk_at dksX0_rowCount_0 16 rfl rfl)
theorem dX0_rowCount_19 : decode cX0_rowCount 19 = .ok (.aload_n 2, 1) := dk_44 (dk_at dksX0_rowCount_0 19 rfl rfl)
theorem dX0_rowCount_20 : decode cX0_rowCount 20 = .ok (.iload 4, 2) := dk_21 4 (dk_at dksX0_rowCount_0 20 rfl rfl)
theorem dX0_rowCount_22 : decode cX0_rowCount 22 = .ok (.aaload, 1) := dk_50 (dk_at dksX0_rowCount_0 22 rfl rfl)
theorem dX0_rowCount_23 : decode cX0_rowCount 23 = .ok (.astore 5, 2) := dk_58 5 (dk_at dksX0_rowCount_1 0 rfl rfl)
theorem dX0_rowCount_25 : decode cX0_rowCount 25 = .ok (.iload_n 1, 1) := dk_27 (dk_at dksX0_rowCount_1 2 rfl rfl)
theorem dX0_rowCount_26 : decode cX0_rowCount 26 = .ok (.aload 5, 2) := dk_25 5 (dk_at dksX0_rowCount_1 3 rfl rfl)
theorem dX0_rowCount_28 : decode cX0_rowCount 28 = .ok (.ifnonnull 7, 3) := dk_199 0 7 (dk_at dksX0_rowCount_1 5 rfl rfl)
theorem dX0_rowCount_31 : decode cX0_rowCount 31 = .ok (.iconst 0, 1) := dk_3 (dk_at dksX0_rowCount_1 8 rfl rfl)
theorem dX0_rowCount_32 : decode cX0_rowCount 32 = .ok (.goto 4, 3) := dk_167 0 4 (dk_at dksX0_rowCount_1 9 rfl rfl)
theorem dX0_rowCount_35 : decode cX0_rowCount 35 = .ok (.iconst 1, 1) := dk_4 (dk_at dksX0_rowCount_1 12 rfl rfl)
theorem dX0_rowCount_36 : decode cX0_rowCount 36 = .ok (.iadd, 1) := dk_96 (dk_at dksX0_rowCount_1 13 rfl rfl)
theorem dX0_rowCount_37 : decode cX0_rowCount 37 = .ok (.istore_n 1, 1) := dk_60 (dk_at dksX0_rowCount_1 14 rfl rfl)
theorem dX0_rowCount_38 : decode cX0_rowCount 38 = .ok (.iinc 4 1, 3) := dk_132 4 1 (dk_at dksX0_rowCount_1 15 rfl rfl)
theorem dX0_rowCount_41 : decode cX0_rowCount 41 = .ok (.goto (-28), 3) := dk_167 255 228 (dk_at dksX0_rowCount_1 18 rfl rfl)
theorem dX0_rowCount_44 : decode cX0_rowCount 44 = .ok (.iload_n 1, 1) := dk_27 (dk_at dksX0_rowCount_1 21 rfl rfl)
theorem dX0_rowCount_45 : decode cX0_rowCount 45 = .ok (.ireturn, 1) := dk_172 (dk_at dksX0_rowCount_1 22 rfl rfl)
abbrev cX0_textCount : ByteArray := prog_1_method_82_code
def yX0_textCount : MethodName := ⟨RX0, "textCount", "()I"⟩
def dkwX0_textCount_1 : List UInt8 := [58, 5, 27, 25, 5, 199, 0, 7, 3, 167, 0, 4, 4, 96, 60, 132, 4, 1, 167, 255, 228, 27, 172]
abbrev dktX0_textCount_1 : List UInt8 := dkwX0_textCount_1 ++ []
def dkwX0_textCount_0 : List UInt8 := [3, 60, 42, 180, 0, 40, 77, 44, 190, 62, 3, 54, 4, 21, 4, 29, 162, 0, 28, 44, 21, 4, 50]
abbrev dktX0_textCount_0 : List UInt8 := dkwX0_textCount_0 ++ dktX0_textCount_1
theorem dksX0_textCount_0 : cX0_textCount.data.toList.drop 0 = dktX0_textCount_0 := by decide +kernel
theorem dksX0_textCount_1 : cX0_textCount.data.toList.drop 23 = dktX0_textCount_1 := dk_seg dksX0_textCount_0 23 rfl rfl
theorem dX0_textCount_0 : decode cX0_textCount 0 = .ok (.iconst 0, 1) := dk_3 (dk_at dksX0_textCount_0 0 rfl rfl)
theorem dX0_textCount_1 : decode cX0_textCount 1 = .ok (.istore_n 1, 1) := dk_60 (dk_at dksX0_textCount_0 1 rfl rfl)
theorem dX0_textCount_2 : decode cX0_textCount 2 = .ok (.aload_n 0, 1) := dk_42 (dk_at dksX0_textCount_0 2 rfl rfl)
theorem dX0_textCount_3 : decode cX0_textCount 3 = .ok (.getfield 40, 3) := dk_180 0 40 (dk_at dksX0_textCount_0 3 rfl rfl)
theorem dX0_textCount_6 : decode cX0_textCount 6 = .ok (.astore_n 2, 1) := dk_77 (dk_at dksX0_textCount_0 6 rfl rfl)
theorem dX0_textCount_7 : decode cX0_textCount 7 = .ok (.aload_n 2, 1) := dk_44 (dk_at dksX0_textCount_0 7 rfl rfl)
theorem dX0_textCount_8 : decode cX0_textCount 8 = .ok (.arraylength, 1) := dk_190 (dk_at dksX0_textCount_0 8 rfl rfl)
theorem dX0_textCount_9 : decode cX0_textCount 9 = .ok (.istore_n 3, 1) := dk_62 (dk_at dksX0_textCount_0 9 rfl rfl)
theorem dX0_textCount_10 : decode cX0_textCount 10 = .ok (.iconst 0, 1) := dk_3 (dk_at dksX0_textCount_0 10 rfl rfl)
theorem dX0_textCount_11 : decode cX0_textCount 11 = .ok (.istore 4, 2) := dk_54 4 (dk_at dksX0_textCount_0 11 rfl rfl)
theorem dX0_textCount_13 : decode cX0_textCount 13 = .ok (.iload 4, 2) := dk_21 4 (dk_at dksX0_textCount_0 13 rfl rfl)
theorem dX0_textCount_15 : decode cX0_textCount 15 = .ok (.iload_n 3, 1) := dk_29 (dk_at dksX0_textCount_0 15 rfl rfl)
theorem dX0_textCount_16 : decode cX0_textCount 16 = .ok (.if_icmp .ge 28, 3) := dk_162 0 28 (dk_at dksX0_textCount_0 16 rfl rfl)
theorem dX0_textCount_19 : decode cX0_textCount 19 = .ok (.aload_n 2, 1) := dk_44 (dk_at dksX0_textCount_0 19 rfl rfl)
theorem dX0_textCount_20 : decode cX0_textCount 20 = .ok (.iload 4, 2) := dk_21 4 (dk_at dksX0_textCount_0 20 rfl rfl)
theorem dX0_textCount_22 : decode cX0_textCount 22 = .ok (.aaload, 1) := dk_50 (dk_at dksX0_textCount_0 22 rfl rfl)
theorem dX0_textCount_23 : decode cX0_textCount 23 = .ok (.astore 5, 2) := dk_58 5 (dk_at dksX0_textCount_1 0 rfl rfl)
theorem dX0_textCount_25 : decode cX0_textCount 25 = .ok (.iload_n 1, 1) := dk_27 (dk_at dksX0_textCount_1 2 rfl rfl)
theorem dX0_textCount_26 : decode cX0_textCount 26 = .ok (.aload 5, 2) := dk_25 5 (dk_at dksX0_textCount_1 3 rfl rfl)
theorem dX0_textCount_28 : decode cX0_textCount 28 = .ok (.ifnonnull 7, 3) := dk_199 0 7 (dk_at dksX0_textCount_1 5 rfl rfl)
theorem dX0_textCount_31 : decode cX0_textCount 31 = .ok (.iconst 0, 1) := dk_3 (dk_at dksX0_textCount_1 8 rfl rfl)
theorem dX0_textCount_32 : decode cX0_textCount 32 = .ok (.goto 4, 3) := dk_167 0 4 (dk_at dksX0_textCount_1 9 rfl rfl)
theorem dX0_textCount_35 : decode cX0_textCount 35 = .ok (.iconst 1, 1) := dk_4 (dk_at dksX0_textCount_1 12 rfl rfl)
theorem dX0_textCount_36 : decode cX0_textCount 36 = .ok (.iadd, 1) := dk_96 (dk_at dksX0_textCount_1 13 rfl rfl)
theorem dX0_textCount_37 : decode cX0_textCount 37 = .ok (.istore_n 1, 1) := dk_60 (dk_at dksX0_textCount_1 14 rfl rfl)
theorem dX0_textCount_38 : decode cX0_textCount 38 = .ok (.iinc 4 1, 3) := dk_132 4 1 (dk_at dksX0_textCount_1 15 rfl rfl)
theorem dX0_textCount_41 : decode cX0_textCount 41 = .ok (.goto (-28), 3) := dk_167 255 228 (dk_at dksX0_textCount_1 18 rfl rfl)
theorem dX0_textCount_44 : decode cX0_textCount 44 = .ok (.iload_n 1, 1) := dk_27 (dk_at dksX0_textCount_1 21 rfl rfl)
theorem dX0_textCount_45 : decode cX0_textCount 45 = .ok (.ireturn, 1) := dk_172 (dk_at dksX0_textCount_1 22 rfl rfl)
abbrev cX0_wordCount : ByteArray := prog_1_method_83_code
def yX0_wordCount : MethodName := ⟨RX0, "wordCount", "(I)I"⟩
def dkwX0_wordCount_2 : List UInt8 := [61, 132, 5, 1, 167, 255, 218, 28, 172]
abbrev dktX0_wordCount_2 : List UInt8 := dkwX0_wordCount_2 ++ []
def dkwX0_wordCount_1 : List UInt8 := [50, 58, 6, 28, 25, 6, 198, 0, 16, 25, 6, 27, 182, 1, 58, 153, 0, 7, 4, 167, 0, 4, 3, 96]
abbrev dktX0_wordCount_1 : List UInt8 := dkwX0_wordCount_1 ++ dktX0_wordCount_2
def dkwX0_wordCount_0 : List UInt8 := [3, 61, 42, 180, 0, 46, 78, 45, 190, 54, 4, 3, 54, 5, 21, 5, 21, 4, 162, 0, 37, 45, 21, 5]
abbrev dktX0_wordCount_0 : List UInt8 := dkwX0_wordCount_0 ++ dktX0_wordCount_1
theorem dksX0_wordCount_0 : cX0_wordCount.data.toList.drop 0 = dktX0_wordCount_0 := by decide +kernel
theorem dksX0_wordCount_1 : cX0_wordCount.data.toList.drop 24 = dktX0_wordCount_1 := dk_seg dksX0_wordCount_0 24 rfl rfl
theorem dksX0_wordCount_2 : cX0_wordCount.data.toList.drop 48 = dktX0_wordCount_2 := dk_seg dksX0_wordCount_1 24 rfl rfl
theorem dX0_wordCount_0 : decode cX0_wordCount 0 = .ok (.iconst 0, 1) := dk_3 (dk_at dksX0_wordCount_0 0 rfl rfl)
theorem dX0_wordCount_1 : decode cX0_wordCount 1 = .ok (.istore_n 2, 1) := dk_61 (dk_at dksX0_wordCount_0 1 rfl rfl)
theorem dX0_wordCount_2 : decode cX0_wordCount 2 = .ok (.aload_n 0, 1) := dk_42 (dk_at dksX0_wordCount_0 2 rfl rfl)
theorem dX0_wordCount_3 : decode cX0_wordCount 3 = .ok (.getfield 46, 3) := dk_180 0 46 (dk_at dksX0_wordCount_0 3 rfl rfl)
theorem dX0_wordCount_6 : decode cX0_wordCount 6 = .ok (.astore_n 3, 1) := dk_78 (dk_at dksX0_wordCount_0 6 rfl rfl)
theorem dX0_wordCount_7 : decode cX0_wordCount 7 = .ok (.aload_n 3, 1) := dk_45 (dk_at dksX0_wordCount_0 7 rfl rfl)
theorem dX0_wordCount_8 : decode cX0_wordCount 8 = .ok (.arraylength, 1) := dk_190 (dk_at dksX0_wordCount_0 8 rfl rfl)
theorem dX0_wordCount_9 : decode cX0_wordCount 9 = .ok (.istore 4, 2) := dk_54 4 (dk_at dksX0_wordCount_0 9 rfl rfl)
theorem dX0_wordCount_11 : decode cX0_wordCount 11 = .ok (.iconst 0, 1) := dk_3 (dk_at dksX0_wordCount_0 11 rfl rfl)
theorem dX0_wordCount_12 : decode cX0_wordCount 12 = .ok (.istore 5, 2) := dk_54 5 (dk_at dksX0_wordCount_0 12 rfl rfl)
theorem dX0_wordCount_14 : decode cX0_wordCount 14 = .ok (.iload 5, 2) := dk_21 5 (dk_at dksX0_wordCount_0 14 rfl rfl)
theorem dX0_wordCount_16 : decode cX0_wordCount 16 = .ok (.iload 4, 2) := dk_21 4 (dk_at dksX0_wordCount_0 16 rfl rfl)
theorem dX0_wordCount_18 : decode cX0_wordCount 18 = .ok (.if_icmp .ge 37, 3) := dk_162 0 37 (dk_at dksX0_wordCount_0 18 rfl rfl)
theorem dX0_wordCount_21 : decode cX0_wordCount 21 = .ok (.aload_n 3, 1) := dk_45 (dk_at dksX0_wordCount_0 21 rfl rfl)
theorem dX0_wordCount_22 : decode cX0_wordCount 22 = .ok (.iload 5, 2) := dk_21 5 (dk_at dksX0_wordCount_0 22 rfl rfl)
theorem dX0_wordCount_24 : decode cX0_wordCount 24 = .ok (.aaload, 1) := dk_50 (dk_at dksX0_wordCount_1 0 rfl rfl)
theorem dX0_wordCount_25 : decode cX0_wordCount 25 = .ok (.astore 6, 2) := dk_58 6 (dk_at dksX0_wordCount_1 1 rfl rfl)
theorem dX0_wordCount_27 : decode cX0_wordCount 27 = .ok (.iload_n 2, 1) := dk_28 (dk_at dksX0_wordCount_1 3 rfl rfl)
theorem dX0_wordCount_28 : decode cX0_wordCount 28 = .ok (.aload 6, 2) := dk_25 6 (dk_at dksX0_wordCount_1 4 rfl rfl)
theorem dX0_wordCount_30 : decode cX0_wordCount 30 = .ok (.ifnull 16, 3) := dk_198 0 16 (dk_at dksX0_wordCount_1 6 rfl rfl)
theorem dX0_wordCount_33 : decode cX0_wordCount 33 = .ok (.aload 6, 2) := dk_25 6 (dk_at dksX0_wordCount_1 9 rfl rfl)
theorem dX0_wordCount_35 : decode cX0_wordCount 35 = .ok (.iload_n 1, 1) := dk_27 (dk_at dksX0_wordCount_1 11 rfl rfl)
theorem dX0_wordCount_36 : decode cX0_wordCount 36 = .ok (.invokevirtual 314, 3) := dk_182 1 58 (dk_at dksX0_wordCount_1 12 rfl rfl)
theorem dX0_wordCount_39 : decode cX0_wordCount 39 = .ok (.ifCond .eq 7, 3) := dk_153 0 7 (dk_at dksX0_wordCount_1 15 rfl rfl)
theorem dX0_wordCount_42 : decode cX0_wordCount 42 = .ok (.iconst 1, 1) := dk_4 (dk_at dksX0_wordCount_1 18 rfl rfl)
theorem dX0_wordCount_43 : decode cX0_wordCount 43 = .ok (.goto 4, 3) := dk_167 0 4 (dk_at dksX0_wordCount_1 19 rfl rfl)
theorem dX0_wordCount_46 : decode cX0_wordCount 46 = .ok (.iconst 0, 1) := dk_3 (dk_at dksX0_wordCount_1 22 rfl rfl)
theorem dX0_wordCount_47 : decode cX0_wordCount 47 = .ok (.iadd, 1) := dk_96 (dk_at dksX0_wordCount_1 23 rfl rfl)
theorem dX0_wordCount_48 : decode cX0_wordCount 48 = .ok (.istore_n 2, 1) := dk_61 (dk_at dksX0_wordCount_2 0 rfl rfl)
theorem dX0_wordCount_49 : decode cX0_wordCount 49 = .ok (.iinc 5 1, 3) := dk_132 5 1 (dk_at dksX0_wordCount_2 1 rfl rfl)
theorem dX0_wordCount_52 : decode cX0_wordCount 52 = .ok (.goto (-38), 3) := dk_167 255 218 (dk_at dksX0_wordCount_2 4 rfl rfl)
theorem dX0_wordCount_55 : decode cX0_wordCount 55 = .ok (.iload_n 2, 1) := dk_28 (dk_at dksX0_wordCount_2 7 rfl rfl)
theorem dX0_wordCount_56 : decode cX0_wordCount 56 = .ok (.ireturn, 1) := dk_172 (dk_at dksX0_wordCount_2 8 rfl rfl)
abbrev cX0_letterCount : ByteArray := prog_1_method_84_code
def yX0_letterCount : MethodName := ⟨RX0, "letterCount", "()I"⟩
def dkwX0_letterCount_2 : List UInt8 := [167, 255, 223, 27, 172]
abbrev dktX0_letterCount_2 : List UInt8 := dkwX0_letterCount_2 ++ []
def dkwX0_letterCount_1 : List UInt8 := [58, 5, 27, 25, 5, 199, 0, 7, 3, 167, 0, 9, 25, 5, 180, 0, 134, 190, 96, 60, 132, 4, 1]
abbrev dktX0_letterCount_1 : List UInt8 := dkwX0_letterCount_1 ++ dktX0_letterCount_2
def dkwX0_letterCount_0 : List UInt8 := [3, 60, 42, 180, 0, 46, 77, 44, 190, 62, 3, 54, 4, 21, 4, 29, 162, 0, 33, 44, 21, 4, 50]
abbrev dktX0_letterCount_0 : List UInt8 := dkwX0_letterCount_0 ++ dktX0_letterCount_1
theorem dksX0_letterCount_0 : cX0_letterCount.data.toList.drop 0 = dktX0_letterCount_0 := by decide +kernel
theorem dksX0_letterCount_1 : cX0_letterCount.data.toList.drop 23 = dktX0_letterCount_1 := dk_seg dksX0_letterCount_0 23 rfl rfl
theorem dksX0_letterCount_2 : cX0_letterCount.data.toList.drop 46 = dktX0_letterCount_2 := dk_seg dksX0_letterCount_1 23 rfl rfl
theorem dX0_letterCount_0 : decode cX0_letterCount 0 = .ok (.iconst 0, 1) := dk_3 (dk_at dksX0_letterCount_0 0 rfl rfl)
theorem dX0_letterCount_1 : decode cX0_letterCount 1 = .ok (.istore_n 1, 1) := dk_60 (dk_at dksX0_letterCount_0 1 rfl rfl)
theorem dX0_letterCount_2 : decode cX0_letterCount 2 = .ok (.aload_n 0, 1) := dk_42 (dk_at dksX0_letterCount_0 2 rfl rfl)
theorem dX0_letterCount_3 : decode cX0_letterCount 3 = .ok (.getfield 46, 3) := dk_180 0 46 (dk_at dksX0_letterCount_0 3 rfl rfl)
theorem dX0_letterCount_6 : decode cX0_letterCount 6 = .ok (.astore_n 2, 1) := dk_77 (dk_at dksX0_letterCount_0 6 rfl rfl)
theorem dX0_letterCount_7 : decode cX0_letterCount 7 = .ok (.aload_n 2, 1) := dk_44 (dk_at dksX0_letterCount_0 7 rfl rfl)
theorem dX0_letterCount_8 : decode cX0_letterCount 8 = .ok (.arraylength, 1) := dk_190 (dk_at dksX0_letterCount_0 8 rfl rfl)
theorem dX0_letterCount_9 : decode cX0_letterCount 9 = .ok (.istore_n 3, 1) := dk_62 (dk_at dksX0_letterCount_0 9 rfl rfl)
theorem dX0_letterCount_10 : decode cX0_letterCount 10 = .ok (.iconst 0, 1) := dk_3 (dk_at dksX0_letterCount_0 10 rfl rfl)
theorem dX0_letterCount_11 : decode cX0_letterCount 11 = .ok (.istore 4, 2) := dk_54 4 (dk_at dksX0_letterCount_0 11 rfl rfl)
theorem dX0_letterCount_13 : decode cX0_letterCount 13 = .ok (.iload 4, 2) := dk_21 4 (dk_at dksX0_letterCount_0 13 rfl rfl)
theorem dX0_letterCount_15 : decode cX0_letterCount 15 = .ok (.iload_n 3, 1) := dk_29 (dk_at dksX0_letterCount_0 15 rfl rfl)
theorem dX0_letterCount_16 : decode cX0_letterCount 16 = .ok (.if_icmp .ge 33, 3) := dk_162 0 33 (dk_at dksX0_letterCount_0 16 rfl rfl)
theorem dX0_letterCount_19 : decode cX0_letterCount 19 = .ok (.aload_n 2, 1) := dk_44 (dk_at dksX0_letterCount_0 19 rfl rfl)
theorem dX0_letterCount_20 : decode cX0_letterCount 20 = .ok (.iload 4, 2) := dk_21 4 (dk_at dksX0_letterCount_0 20 rfl rfl)
theorem dX0_letterCount_22 : decode cX0_letterCount 22 = .ok (.aaload, 1) := dk_50 (dk_at dksX0_letterCount_0 22 rfl rfl)
theorem dX0_letterCount_23 : decode cX0_letterCount 23 = .ok (.astore 5, 2) := dk_58 5 (dk_at dksX0_letterCount_1 0 rfl rfl)
theorem dX0_letterCount_25 : decode cX0_letterCount 25 = .ok (.iload_n 1, 1) := dk_27 (dk_at dksX0_letterCount_1 2 rfl rfl)
theorem dX0_letterCount_26 : decode cX0_letterCount 26 = .ok (.aload 5, 2) := dk_25 5 (dk_at dksX0_letterCount_1 3 rfl rfl)
theorem dX0_letterCount_28 : decode cX0_letterCount 28 = .ok (.ifnonnull 7, 3) := dk_199 0 7 (dk_at dksX0_letterCount_1 5 rfl rfl)
theorem dX0_letterCount_31 : decode cX0_letterCount 31 = .ok (.iconst 0, 1) := dk_3 (dk_at dksX0_letterCount_1 8 rfl rfl)
theorem dX0_letterCount_32 : decode cX0_letterCount 32 = .ok (.goto 9, 3) := dk_167 0 9 (dk_at dksX0_letterCount_1 9 rfl rfl)
theorem dX0_letterCount_35 : decode cX0_letterCount 35 = .ok (.aload 5, 2) := dk_25 5 (dk_at dksX0_letterCount_1 12 rfl rfl)
theorem dX0_letterCount_37 : decode cX0_letterCount 37 = .ok (.getfield 134, 3) := dk_180 0 134 (dk_at dksX0_letterCount_1 14 rfl rfl)
theorem dX0_letterCount_40 : decode cX0_letterCount 40 = .ok (.arraylength, 1) := dk_190 (dk_at dksX0_letterCount_1 17 rfl rfl)
theorem dX0_letterCount_41 : decode cX0_letterCount 41 = .ok (.iadd, 1) := dk_96 (dk_at dksX0_letterCount_1 18 rfl rfl)
theorem dX0_letterCount_42 : decode cX0_letterCount 42 = .ok (.istore_n 1, 1) := dk_60 (dk_at dksX0_letterCount_1 19 rfl rfl)
theorem dX0_letterCount_43 : decode cX0_letterCount 43 = .ok (.iinc 4 1, 3) := dk_132 4 1 (dk_at dksX0_letterCount_1 20 rfl rfl)
theorem dX0_letterCount_46 : decode cX0_letterCount 46 = .ok (.goto (-33), 3) := dk_167 255 223 (dk_at dksX0_letterCount_2 0 rfl rfl)
theorem dX0_letterCount_49 : decode cX0_letterCount 49 = .ok (.iload_n 1, 1) := dk_27 (dk_at dksX0_letterCount_2 3 rfl rfl)
theorem dX0_letterCount_50 : decode cX0_letterCount 50 = .ok (.ireturn, 1) := dk_172 (dk_at dksX0_letterCount_2 4 rfl rfl)
abbrev cX0_finding : ByteArray := prog_1_method_87_code
def yX0_finding : MethodName := ⟨RX0, "finding", "()I"⟩
theorem dX0_finding_0 : decode cX0_finding 0 = .ok (.aload_n 0, 1) := by decide +kernel
theorem dX0_finding_1 : decode cX0_finding 1 = .ok (.getfield 1, 3) := by decide +kernel
theorem dX0_finding_4 : decode cX0_finding 4 = .ok (.ireturn, 1) := by decide +kernel
abbrev cX0_findings : ByteArray := prog_1_method_88_code
def yX0_findings : MethodName := ⟨RX0, "findings", "(I)I"⟩
def dkwX0_findings_0 : List UInt8 := [27, 4, 8, 184, 0, 93, 153, 0, 12, 42, 180, 0, 7, 27, 46, 167, 0, 4, 2, 172]
abbrev dktX0_findings_0 : List UInt8 := dkwX0_findings_0 ++ []
theorem dksX0_findings_0 : cX0_findings.data.toList.drop 0 = dktX0_findings_0 := by decide +kernel
theorem dX0_findings_0 : decode cX0_findings 0 = .ok (.iload_n 1, 1) := dk_27 (dk_at dksX0_findings_0 0 rfl rfl)
theorem dX0_findings_1 : decode cX0_findings 1 = .ok (.iconst 1, 1) := dk_4 (dk_at dksX0_findings_0 1 rfl rfl)
theorem dX0_findings_2 : decode cX0_findings 2 = .ok (.iconst 5, 1) := dk_8 (dk_at dksX0_findings_0 2 rfl rfl)
theorem dX0_findings_3 : decode cX0_findings 3 = .ok (.invokestatic 93, 3) := dk_184 0 93 (dk_at dksX0_findings_0 3 rfl rfl)
theorem dX0_findings_6 : decode cX0_findings 6 = .ok (.ifCond .eq 12, 3) := dk_153 0 12 (dk_at dksX0_findings_0 6 rfl rfl)
theorem dX0_findings_9 : decode cX0_findings 9 = .ok (.aload_n 0, 1) := dk_42 (dk_at dksX0_findings_0 9 rfl rfl)
theorem dX0_findings_10 : decode cX0_findings 10 = .ok (.getfield 7, 3) := dk_180 0 7 (dk_at dksX0_findings_0 10 rfl rfl)
theorem dX0_findings_13 : decode cX0_findings 13 = .ok (.iload_n 1, 1) := dk_27 (dk_at dksX0_findings_0 13 rfl rfl)
theorem dX0_findings_14 : decode cX0_findings 14 = .ok (.iaload, 1) := dk_46 (dk_at dksX0_findings_0 14 rfl rfl)
theorem dX0_findings_15 : decode cX0_findings 15 = .ok (.goto 4, 3) := dk_167 0 4 (dk_at dksX0_findings_0 15 rfl rfl)
theorem dX0_findings_18 : decode cX0_findings 18 = .ok (.iconst (-1), 1) := dk_2 (dk_at dksX0_findings_0 18 rfl rfl)
theorem dX0_findings_19 : decode cX0_findings 19 = .ok (.ireturn, 1) := dk_172 (dk_at dksX0_findings_0 19 rfl rfl)
abbrev cX0_digest : ByteArray := prog_1_method_91_code
def yX0_digest : MethodName := ⟨RX0, "digest", "()J"⟩
def dkwX0_digest_7 : List UInt8 := [132, 6, 1, 167, 255, 237, 132, 3, 1, 167, 255, 198, 42, 180, 1, 78, 173]
abbrev dktX0_digest_7 : List UInt8 := dkwX0_digest_7 ++ []
def dkwX0_digest_6 : List UInt8 := [21, 5, 182, 1, 81, 3, 54, 6, 21, 6, 21, 5, 162, 0, 18, 42, 25, 4, 21, 6, 51, 182, 1, 81]
abbrev dktX0_digest_6 : List UInt8 := dkwX0_digest_6 ++ dktX0_digest_7
def dkwX0_digest_5 : List UInt8 := [162, 0, 59, 43, 29, 50, 58, 4, 25, 4, 199, 0, 7, 2, 167, 0, 6, 25, 4, 190, 54, 5, 42]
abbrev dktX0_digest_5 : List UInt8 := dkwX0_digest_5 ++ dktX0_digest_6
def dkwX0_digest_4 : List UInt8 := [132, 6, 1, 167, 255, 237, 132, 3, 1, 167, 255, 198, 42, 180, 0, 40, 76, 43, 190, 61, 3, 62, 29, 28]
abbrev dktX0_digest_4 : List UInt8 := dkwX0_digest_4 ++ dktX0_digest_5
def dkwX0_digest_3 : List UInt8 := [21, 5, 182, 1, 81, 3, 54, 6, 21, 6, 21, 5, 162, 0, 18, 42, 25, 4, 21, 6, 46, 182, 1, 81]
abbrev dktX0_digest_3 : List UInt8 := dkwX0_digest_3 ++ dktX0_digest_4
def dkwX0_digest_2 : List UInt8 := [162, 0, 59, 43, 29, 50, 58, 4, 25, 4, 199, 0, 7, 2, 167, 0, 6, 25, 4, 190, 54, 5, 42]
abbrev dktX0_digest_2 : List UInt8 := dkwX0_digest_2 ++ dktX0_digest_3
def dkwX0_digest_1 : List UInt8 := [132, 1, 1, 167, 255, 239, 42, 182, 1, 89, 42, 180, 0, 34, 76, 43, 190, 61, 3, 62, 29, 28]
abbrev dktX0_digest_1 : List UInt8 := dkwX0_digest_1 ++ dktX0_digest_2
def dkwX0_digest_0 : List UInt8 := [42, 20, 1, 87, 181, 1, 78, 3, 60, 27, 8, 163, 0, 18, 42, 42, 27, 182, 1, 73, 182, 1, 81]
abbrev dktX0_digest_0 : List UInt8 := dkwX0_digest_0 ++ dktX0_digest_1
theorem dksX0_digest_0 : cX0_digest.data.toList.drop 0 = dktX0_digest_0 := by decide +kernel
theorem dksX0_digest_1 : cX0_digest.data.toList.drop 23 = dktX0_digest_1 := dk_seg dksX0_digest_0 23 rfl rfl
theorem dksX0_digest_2 : cX0_digest.data.toList.drop 45 = dktX0_digest_2 := dk_seg dksX0_digest_1 22 rfl rfl
theorem dksX0_digest_3 : cX0_digest.data.toList.drop 68 = dktX0_digest_3 := dk_seg dksX0_digest_2 23 rfl rfl
theorem dksX0_digest_4 : cX0_digest.data.toList.drop 92 = dktX0_digest_4 := dk_seg dksX0_digest_3 24 rfl rfl
theorem dksX0_digest_5 : cX0_digest.data.toList.drop 116 = dktX0_digest_5 := dk_seg dksX0_digest_4 24 rfl rfl
theorem dksX0_digest_6 : cX0_digest.data.toList.drop 139 = dktX0_digest_6 := dk_seg dksX0_digest_5 23 rfl rfl
theorem dksX0_digest_7 : cX0_digest.data.toList.drop 163 = dktX0_digest_7 := dk_seg dksX0_digest_6 24 rfl rfl
theorem dX0_digest_0 : decode cX0_digest 0 = .ok (.aload_n 0, 1) := dk_42 (dk_at dksX0_digest_0 0 rfl rfl)
theorem dX0_digest_1 : decode cX0_digest 1 = .ok (.ldc2_w 343, 3) := dk_20 1 87 (dk_at dksX0_digest_0 1 rfl rfl)
theorem dX0_digest_4 : decode cX0_digest 4 = .ok (.putfield 334, 3) := dk_181 1 78 (dk_at dksX0_digest_0 4 rfl rfl)
theorem dX0_digest_7 : decode cX0_digest 7 = .ok (.iconst 0, 1) := dk_3 (dk_at dksX0_digest_0 7 rfl rfl)
theorem dX0_digest_8 : decode cX0_digest 8 = .ok (.istore_n 1, 1) := dk_60 (dk_at dksX0_digest_0 8 rfl rfl)
theorem dX0_digest_9 : decode cX0_digest 9 = .ok (.iload_n 1, 1) := dk_27 (dk_at dksX0_digest_0 9 rfl rfl)
theorem dX0_digest_10 : decode cX0_digest 10 = .ok (.iconst 5, 1) := dk_8 (dk_at dksX0_digest_0 10 rfl rfl)
theorem dX0_digest_11 : decode cX0_digest 11 = .ok (.if_icmp .gt 18, 3) := dk_163 0 18 (dk_at dksX0_digest_0 11 rfl rfl)
theorem dX0_digest_14 : decode cX0_digest 14 = .ok (.aload_n 0, 1) := dk_42 (dk_at dksX0_digest_0 14 rfl rfl)
theorem dX0_digest_15 : decode cX0_digest 15 = .ok (.aload_n 0, 1) := dk_42 (dk_at dksX0_digest_0 15 rfl rfl)
theorem dX0_digest_16 : decode cX0_digest 16 = .ok (.iload_n 1, 1) := dk_27 (dk_at dksX0_digest_0 16 rfl rfl)
theorem dX0_digest_17 : decode cX0_digest 17 = .ok (.invokevirtual 329, 3) := dk_182 1 73 (dk_at dksX0_digest_0 17 rfl rfl)
theorem dX0_digest_20 : decode cX0_digest 20 = .ok (.invokevirtual 337, 3) := dk_182 1 81 (dk_at dksX0_digest_0 20 rfl rfl)
theorem dX0_digest_23 : decode cX0_digest 23 = .ok (.iinc 1 1, 3) := dk_132 1 1 (dk_at dksX0_digest_1 0 rfl rfl)
theorem dX0_digest_26 : decode cX0_digest 26 = .ok (.goto (-17), 3) := dk_167 255 239 (dk_at dksX0_digest_1 3 rfl rfl)
theorem dX0_digest_29 : decode cX0_digest 29 = .ok (.aload_n 0, 1) := dk_42 (dk_at dksX0_digest_1 6 rfl rfl)
theorem dX0_digest_30 : decode cX0_digest 30 = .ok (.invokevirtual 345, 3) := dk_182 1 89 (dk_at dksX0_digest_1 7 rfl rfl)
theorem dX0_digest_33 : decode cX0_digest 33 = .ok (.aload_n 0, 1) := dk_42 (dk_at dksX0_digest_1 10 rfl rfl)
theorem dX0_digest_34 : decode cX0_digest 34 = .ok (.getfield 34, 3) := dk_180 0 34 (dk_at dksX0_digest_1 11 rfl rfl)
theorem dX0_digest_37 : decode cX0_digest 37 = .ok (.astore_n 1, 1) := dk_76 (dk_at dksX0_digest_1 14 rfl rfl)
theorem dX0_digest_38 : decode cX0_digest 38 = .ok (.aload_n 1, 1) := dk_43 (dk_at dksX0_digest_1 15 rfl rfl)
theorem dX0_digest_39 : decode cX0_digest 39 = .ok (.arraylength, 1) := dk_190 (dk_at dksX0_digest_1 16 rfl rfl)
theorem dX0_digest_40 : decode cX0_digest 40 = .ok (.istore_n 2, 1) := dk_61 (dk_at dksX0_digest_1 17 rfl rfl)
theorem dX0_digest_41 : decode cX0_digest 41 = .ok (.iconst 0, 1) := dk_3 (dk_at dksX0_digest_1 18 rfl rfl)
theorem dX0_digest_42 : decode cX0_digest 42 = .ok (.istore_n 3, 1) := dk_62 (dk_at dksX0_digest_1 19 rfl rfl)
theorem dX0_digest_43 : decode cX0_digest 43 = .ok (.iload_n 3, 1) := dk_29 (dk_at dksX0_digest_1 20 rfl rfl)
theorem dX0_digest_44 : decode cX0_digest 44 = .ok (.iload_n 2, 1) := dk_28 (dk_at dksX0_digest_1 21 rfl rfl)
theorem dX0_digest_45 : decode cX0_digest 45 = .ok (.if_icmp .ge 59, 3) := dk_162 0 59 (dk_at dksX0_digest_2 0 rfl rfl)
theorem dX0_digest_48 : decode cX0_digest 48 = .ok (.aload_n 1, 1) := dk_43 (dk_at dksX0_digest_2 3 rfl rfl)
theorem dX0_digest_49 : decode cX0_digest 49 = .ok (.iload_n 3, 1) := dk_29 (dk_at dksX0_digest_2 4 rfl rfl)
theorem dX0_digest_50 : decode cX0_digest 50 = .ok (.aaload, 1) := dk_50 (dk_at dksX0_digest_2 5 rfl rfl)
theorem dX0_digest_51 : decode cX0_digest 51 = .ok (.astore 4, 2) := dk_58 4 (dk_at dksX0_digest_2 6 rfl rfl)
theorem dX0_digest_53 : decode cX0_digest 53 = .ok (.aload 4, 2) := dk_25 4 (dk_at dksX0_digest_2 8 rfl rfl)
theorem dX0_digest_55 : decode cX0_digest 55 = .ok (.ifnonnull 7, 3) := dk_199 0 7 (dk_at dksX0_digest_2 10 rfl rfl)
theorem dX0_digest_58 : decode cX0_digest 58 = .ok (.iconst (-1), 1) := dk_2 (dk_at dksX0_digest_2 13 rfl rfl)
theorem dX0_digest_59 : decode cX0_digest 59 = .ok (.goto 6, 3) := dk_167 0 6 (dk_at dksX0_digest_2 14 rfl rfl)
theorem dX0_digest_62 : decode cX0_digest 62 = .ok (.aload 4, 2) := dk_25 4 (dk_at dksX0_digest_2 17 rfl rfl)
theorem dX0_digest_64 : decode cX0_digest 64 = .ok (.arraylength, 1) := dk_190 (dk_at dksX0_digest_2 19 rfl rfl)
theorem dX0_digest_65 : decode cX0_digest 65 = .ok (.istore 5, 2) := dk_54 5 (dk_at dksX0_digest_2 20 rfl rfl)
theorem dX0_digest_67 : decode cX0_digest 67 = .ok (.aload_n 0, 1) := dk_42 (dk_at dksX0_digest_2 22 rfl rfl)
theorem dX0_digest_68 : decode cX0_digest 68 = .ok (.iload 5, 2) := dk_21 5 (dk_at dksX0_digest_3 0 rfl rfl)
theorem dX0_digest_70 : decode cX0_digest 70 = .ok (.invokevirtual 337, 3) := dk_182 1 81 (dk_at dksX0_digest_3 2 rfl rfl)
theorem dX0_digest_73 : decode cX0_digest 73 = .ok (.iconst 0, 1) := dk_3 (dk_at dksX0_digest_3 5 rfl rfl)
theorem dX0_digest_74 : decode cX0_digest 74 = .ok (.istore 6, 2) := dk_54 6 (dk_at dksX0_digest_3 6 rfl rfl)
theorem dX0_digest_76 : decode cX0_digest 76 = .ok (.iload 6, 2) := dk_21 6 (dk_at dksX0_digest_3 8 rfl rfl)
theorem dX0_digest_78 : decode cX0_digest 78 = .ok (.iload 5, 2) := dk_21 5 (dk_at dksX0_digest_3 10 rfl rfl)
theorem dX0_digest_80 : decode cX0_digest 80 = .ok (.if_icmp .ge 18, 3) := dk_162 0 18 (dk_at dksX0_digest_3 12 rfl rfl)
theorem dX0_digest_83 : decode cX0_digest 83 = .ok (.aload_n 0, 1) := dk_42 (dk_at dksX0_digest_3 15 rfl rfl)
theorem dX0_digest_84 : decode cX0_digest 84 = .ok (.aload 4, 2) := dk_25 4 (dk_at dksX0_digest_3 16 rfl rfl)
theorem dX0_digest_86 : decode cX0_digest 86 = .ok (.iload 6, 2) := dk_21 6 (dk_at dksX0_digest_3 18 rfl rfl)
theorem dX0_digest_88 : decode cX0_digest 88 = .ok (.iaload, 1) := dk_46 (dk_at dksX0_digest_3 20 rfl rfl)
theorem dX0_digest_89 : decode cX0_digest 89 = .ok (.invokevirtual 337, 3) := dk_182 1 81 (dk_at dksX0_digest_3 21 rfl rfl)
theorem dX0_digest_92 : decode cX0_digest 92 = .ok (.iinc 6 1, 3) := dk_132 6 1 (dk_at dksX0_digest_4 0 rfl rfl)
theorem dX0_digest_95 : decode cX0_digest 95 = .ok (.goto (-19), 3) := dk_167 255 237 (dk_at dksX0_digest_4 3 rfl rfl)
theorem dX0_digest_98 : decode cX0_digest 98 = .ok (.iinc 3 1, 3) := dk_132 3 1 (dk_at dksX0_digest_4 6 rfl rfl)
theorem dX0_digest_101 : decode cX0_digest 101 = .ok (.goto (-58), 3) := dk_167 255 198 (dk_at dksX0_digest_4 9 rfl rfl)
theorem dX0_digest_104 : decode cX0_digest 104 = .ok (.aload_n 0, 1) := dk_42 (dk_at dksX0_digest_4 12 rfl rfl)
theorem dX0_digest_105 : decode cX0_digest 105 = .ok (.getfield 40, 3) := dk_180 0 40 (dk_at dksX0_digest_4 13 rfl rfl)
theorem dX0_digest_108 : decode cX0_digest 108 = .ok (.astore_n 1, 1) := dk_76 (dk_at dksX0_digest_4 16 rfl rfl)
theorem dX0_digest_109 : decode cX0_digest 109 = .ok (.aload_n 1, 1) := dk_43 (dk_at dksX0_digest_4 17 rfl rfl)
theorem dX0_digest_110 : decode cX0_digest 110 = .ok (.arraylength, 1) := dk_190 (dk_at dksX0_digest_4 18 rfl rfl)
theorem dX0_digest_111 : decode cX0_digest 111 = .ok (.istore_n 2, 1) := dk_61 (dk_at dksX0_digest_4 19 rfl rfl)
theorem dX0_digest_112 : decode cX0_digest 112 = .ok (.iconst 0, 1) := dk_3 (dk_at dksX0_digest_4 20 rfl rfl)
theorem dX0_digest_113 : decode cX0_digest 113 = .ok (.istore_n 3, 1) := dk_62 (dk_at dksX0_digest_4 21 rfl rfl)
theorem dX0_digest_114 : decode cX0_digest 114 = .ok (.iload_n 3, 1) := dk_29 (dk_at dksX0_digest_4 22 rfl rfl)
theorem dX0_digest_115 : decode cX0_digest 115 = .ok (.iload_n 2, 1) := dk_28 (dk_at dksX0_digest_4 23 rfl rfl)
theorem dX0_digest_116 : decode cX0_digest 116 = .ok (.if_icmp .ge 59, 3) := dk_162 0 59 (dk_at dksX0_digest_5 0 rfl rfl)
theorem dX0_digest_119 : decode cX0_digest 119 = .ok (.aload_n 1, 1) := dk_43 (dk_at dksX0_digest_5 3 rfl rfl)
theorem dX0_digest_120 : decode cX0_digest 120 = .ok (.iload_n 3, 1) := dk_29 (dk_at dksX0_digest_5 4 rfl rfl)
theorem dX0_digest_121 : decode cX0_digest 121 = .ok (.aaload, 1) := dk_50 (dk_at dksX0_digest_5 5 rfl rfl)
theorem dX0_digest_122 : decode cX0_digest 122 = .ok (.astore 4, 2) := dk_58 4 (dk_at dksX0_digest_5 6 rfl rfl)
theorem dX0_digest_124 : decode cX0_digest 124 = .ok (.aload 4, 2) := dk_25 4 (dk_at dksX0_digest_5 8 rfl rfl)
theorem dX0_digest_126 : decode cX0_digest 126 = .ok (.ifnonnull 7, 3) := dk_199 0 7 (dk_at dksX0_digest_5 10 rfl rfl)
theorem dX0_digest_129 : decode cX0_digest 129 = .ok (.iconst (-1), 1) := dk_2 (dk_at dksX0_digest_5 13 rfl rfl)
theorem dX0_digest_130 : decode cX0_digest 130 = .ok (.goto 6, 3) := dk_167 0 6 (dk_at dksX0_digest_5 14 rfl rfl)
theorem dX0_digest_133 : decode cX0_digest 133 = .ok (.aload 4, 2) := dk_25 4 (dk_at dksX0_digest_5 17 rfl rfl)
theorem dX0_digest_135 : decode cX0_digest 135 = .ok (.arraylength, 1) := dk_190 (dk_at dksX0_digest_5 19 rfl rfl)
theorem dX0_digest_136 : decode cX0_digest 136 = .ok (.istore 5, 2) := dk_54 5 (dk_at dksX0_digest_5 20 rfl rfl)
theorem dX0_digest_138 : decode cX0_digest 138 = .ok (.aload_n 0, 1) := dk_42 (dk_at dksX0_digest_5 22 rfl rfl)
theorem dX0_digest_139 : decode cX0_digest 139 = .ok (.iload 5, 2) := dk_21 5 (dk_at dksX0_digest_6 0 rfl rfl)
theorem dX0_digest_141 : decode cX0_digest 141 = .ok (.invokevirtual 337, 3) := dk_182 1 81 (dk_at dksX0_digest_6 2 rfl rfl)
theorem dX0_digest_144 : decode cX0_digest 144 = .ok (.iconst 0, 1) := dk_3 (dk_at dksX0_digest_6 5 rfl rfl)
theorem dX0_digest_145 : decode cX0_digest 145 = .ok (.istore 6, 2) := dk_54 6 (dk_at dksX0_digest_6 6 rfl rfl)
theorem dX0_digest_147 : decode cX0_digest 147 = .ok (.iload 6, 2) := dk_21 6 (dk_at dksX0_digest_6 8 rfl rfl)
theorem dX0_digest_149 : decode cX0_digest 149 = .ok (.iload 5, 2) := dk_21 5 (dk_at dksX0_digest_6 10 rfl rfl)
theorem dX0_digest_151 : decode cX0_digest 151 = .ok (.if_icmp .ge 18, 3) := dk_162 0 18 (dk_at dksX0_digest_6 12 rfl rfl)
theorem dX0_digest_154 : decode cX0_digest 154 = .ok (.aload_n 0, 1) := dk_42 (dk_at dksX0_digest_6 15 rfl rfl)
theorem dX0_digest_155 : decode cX0_digest 155 = .ok (.aload 4, 2) := dk_25 4 (dk_at dksX0_digest_6 16 rfl rfl)
theorem dX0_digest_157 : decode cX0_digest 157 = .ok (.iload 6, 2) := dk_21 6 (dk_at dksX0_digest_6 18 rfl rfl)
theorem dX0_digest_159 : decode cX0_digest 159 = .ok (.baload, 1) := dk_51 (dk_at dksX0_digest_6 20 rfl rfl)
theorem dX0_digest_160 : decode cX0_digest 160 = .ok (.invokevirtual 337, 3) := dk_182 1 81 (dk_at dksX0_digest_6 21 rfl rfl)
theorem dX0_digest_163 : decode cX0_digest 163 = .ok (.iinc 6 1, 3) := dk_132 6 1 (dk_at dksX0_digest_7 0 rfl rfl)
theorem dX0_digest_166 : decode cX0_digest 166 = .ok (.goto (-19), 3) := dk_167 255 237 (dk_at dksX0_digest_7 3 rfl rfl)
theorem dX0_digest_169 : decode cX0_digest 169 = .ok (.iinc 3 1, 3) := dk_132 3 1 (dk_at dksX0_digest_7 6 rfl rfl)
theorem dX0_digest_172 : decode cX0_digest 172 = .ok (.goto (-58), 3) := dk_167 255 198 (dk_at dksX0_digest_7 9 rfl rfl)
theorem dX0_digest_175 : decode cX0_digest 175 = .ok (.aload_n 0, 1) := dk_42 (dk_at dksX0_digest_7 12 rfl rfl)
theorem dX0_digest_176 : decode cX0_digest 176 = .ok (.getfield 334, 3) := dk_180 1 78 (dk_at dksX0_digest_7 13 rfl rfl)
theorem dX0_digest_179 : decode cX0_digest 179 = .ok (.lreturn, 1) := dk_173 (dk_at dksX0_digest_7 16 rfl rfl)
abbrev cX0_mix : ByteArray := prog_1_method_89_code
def yX0_mix : MethodName := ⟨RX0, "mix", "(I)V"⟩
def dkwX0_mix_0 : List UInt8 := [42, 20, 1, 76, 42, 180, 1, 78, 105, 27, 133, 97, 181, 1, 78, 177]
abbrev dktX0_mix_0 : List UInt8 := dkwX0_mix_0 ++ []
theorem dksX0_mix_0 : cX0_mix.data.toList.drop 0 = dktX0_mix_0 := by decide +kernel
theorem dX0_mix_0 : decode cX0_mix 0 = .ok (.aload_n 0, 1) := dk_42 (dk_at dksX0_mix_0 0 rfl rfl)
theorem dX0_mix_1 : decode cX0_mix 1 = .ok (.ldc2_w 332, 3) := dk_20 1 76 (dk_at dksX0_mix_0 1 rfl rfl)
theorem dX0_mix_4 : decode cX0_mix 4 = .ok (.aload_n 0, 1) := dk_42 (dk_at dksX0_mix_0 4 rfl rfl)
theorem dX0_mix_5 : decode cX0_mix 5 = .ok (.getfield 334, 3) := dk_180 1 78 (dk_at dksX0_mix_0 5 rfl rfl)
theorem dX0_mix_8 : decode cX0_mix 8 = .ok (.lmul, 1) := dk_105 (dk_at dksX0_mix_0 8 rfl rfl)
theorem dX0_mix_9 : decode cX0_mix 9 = .ok (.iload_n 1, 1) := dk_27 (dk_at dksX0_mix_0 9 rfl rfl)
theorem dX0_mix_10 : decode cX0_mix 10 = .ok (.i2l, 1) := dk_133 (dk_at dksX0_mix_0 10 rfl rfl)
theorem dX0_mix_11 : decode cX0_mix 11 = .ok (.ladd, 1) := dk_97 (dk_at dksX0_mix_0 11 rfl rfl)
theorem dX0_mix_12 : decode cX0_mix 12 = .ok (.putfield 334, 3) := dk_181 1 78 (dk_at dksX0_mix_0 12 rfl rfl)
theorem dX0_mix_15 : decode cX0_mix 15 = .ok (.return_, 1) := dk_177 (dk_at dksX0_mix_0 15 rfl rfl)
abbrev cX0_mixWords : ByteArray := prog_1_method_90_code
def yX0_mixWords : MethodName := ⟨RX0, "mixWords", "()V"⟩
def dkwX0_mixWords_4 : List UInt8 := [21, 8, 182, 1, 81, 132, 7, 1, 167, 255, 233, 132, 3, 1, 167, 255, 161, 177]
abbrev dktX0_mixWords_4 : List UInt8 := dkwX0_mixWords_4 ++ []
def dkwX0_mixWords_3 : List UInt8 := [25, 5, 190, 54, 6, 3, 54, 7, 21, 7, 21, 6, 162, 0, 22, 25, 5, 21, 7, 51, 54, 8, 42]
abbrev dktX0_mixWords_3 : List UInt8 := dkwX0_mixWords_3 ++ dktX0_mixWords_4
def dkwX0_mixWords_2 : List UInt8 := [182, 1, 84, 182, 1, 81, 42, 25, 4, 180, 0, 134, 190, 182, 1, 81, 25, 4, 180, 0, 134, 58, 5]
abbrev dktX0_mixWords_2 : List UInt8 := dkwX0_mixWords_2 ++ dktX0_mixWords_3
def dkwX0_mixWords_1 : List UInt8 := [199, 0, 11, 42, 2, 182, 1, 81, 167, 0, 72, 42, 25, 4, 182, 0, 210, 182, 1, 81, 42, 25, 4]
abbrev dktX0_mixWords_1 : List UInt8 := dkwX0_mixWords_1 ++ dktX0_mixWords_2
def dkwX0_mixWords_0 : List UInt8 := [42, 180, 0, 46, 76, 43, 190, 61, 3, 62, 29, 28, 162, 0, 96, 43, 29, 50, 58, 4, 25, 4]
abbrev dktX0_mixWords_0 : List UInt8 := dkwX0_mixWords_0 ++ dktX0_mixWords_1
theorem dksX0_mixWords_0 : cX0_mixWords.data.toList.drop 0 = dktX0_mixWords_0 := by decide +kernel
theorem dksX0_mixWords_1 : cX0_mixWords.data.toList.drop 22 = dktX0_mixWords_1 := dk_seg dksX0_mixWords_0 22 rfl rfl
theorem dksX0_mixWords_2 : cX0_mixWords.data.toList.drop 45 = dktX0_mixWords_2 := dk_seg dksX0_mixWords_1 23 rfl rfl
theorem dksX0_mixWords_3 : cX0_mixWords.data.toList.drop 68 = dktX0_mixWords_3 := dk_seg dksX0_mixWords_2 23 rfl rfl
theorem dksX0_mixWords_4 : cX0_mixWords.data.toList.drop 91 = dktX0_mixWords_4 := dk_seg dksX0_mixWords_3 23 rfl rfl
theorem dX0_mixWords_0 : decode cX0_mixWords 0 = .ok (.aload_n 0, 1) := dk_42 (dk_at dksX0_mixWords_0 0 rfl rfl)
theorem dX0_mixWords_1 : decode cX0_mixWords 1 = .ok (.getfield 46, 3) := dk_180 0 46 (dk_at dksX0_mixWords_0 1 rfl rfl)
theorem dX0_mixWords_4 : decode cX0_mixWords 4 = .ok (.astore_n 1, 1) := dk_76 (dk_at dksX0_mixWords_0 4 rfl rfl)
theorem dX0_mixWords_5 : decode cX0_mixWords 5 = .ok (.aload_n 1, 1) := dk_43 (dk_at dksX0_mixWords_0 5 rfl rfl)
theorem dX0_mixWords_6 : decode cX0_mixWords 6 = .ok (.arraylength, 1) := dk_190 (dk_at dksX0_mixWords_0 6 rfl rfl)
theorem dX0_mixWords_7 : decode cX0_mixWords 7 = .ok (.istore_n 2, 1) := dk_61 (dk_at dksX0_mixWords_0 7 rfl rfl)
theorem dX0_mixWords_8 : decode cX0_mixWords 8 = .ok (.iconst 0, 1) := dk_3 (dk_at dksX0_mixWords_0 8 rfl rfl)
theorem dX0_mixWords_9 : decode cX0_mixWords 9 = .ok (.istore_n 3, 1) := dk_62 (dk_at dksX0_mixWords_0 9 rfl rfl)
theorem dX0_mixWords_10 : decode cX0_mixWords 10 = .ok (.iload_n 3, 1) := dk_29 (dk_at dksX0_mixWords_0 10 rfl rfl)
theorem dX0_mixWords_11 : decode cX0_mixWords 11 = .ok (.iload_n 2, 1) := dk_28 (dk_at dksX0_mixWords_0 11 rfl rfl)
theorem dX0_mixWords_12 : decode cX0_mixWords 12 = .ok (.if_icmp .ge 96, 3) := dk_162 0 96 (dk_at dksX0_mixWords_0 12 rfl rfl)
theorem dX0_mixWords_15 : decode cX0_mixWords 15 = .ok (.aload_n 1, 1) := dk_43 (dk_at dksX0_mixWords_0 15 rfl rfl)
theorem dX0_mixWords_16 : decode cX0_mixWords 16 = .ok (.iload_n 3, 1) := dk_29 (dk_at dksX0_mixWords_0 16 rfl rfl)
theorem dX0_mixWords_17 : decode cX0_mixWords 17 = .ok (.aaload, 1) := dk_50 (dk_at dksX0_mixWords_0 17 rfl rfl)
theorem dX0_mixWords_18 : decode cX0_mixWords 18 = .ok (.astore 4, 2) := dk_58 4 (dk_at dksX0_mixWords_0 18 rfl rfl)
theorem dX0_mixWords_20 : decode cX0_mixWords 20 = .ok (.aload 4, 2) := dk_25 4 (dk_at dksX0_mixWords_0 20 rfl rfl)
theorem dX0_mixWords_22 : decode cX0_mixWords 22 = .ok (.ifnonnull 11, 3) := dk_199 0 11 (dk_at dksX0_mixWords_1 0 rfl rfl)
theorem dX0_mixWords_25 : decode cX0_mixWords 25 = .ok (.aload_n 0, 1) := dk_42 (dk_at dksX0_mixWords_1 3 rfl rfl)
theorem dX0_mixWords_26 : decode cX0_mixWords 26 = .ok (.iconst (-1), 1) := dk_2 (dk_at dksX0_mixWords_1 4 rfl rfl)
theorem dX0_mixWords_27 : decode cX0_mixWords 27 = .ok (.invokevirtual 337, 3) := dk_182 1 81 (dk_at dksX0_mixWords_1 5 rfl rfl)
theorem dX0_mixWords_30 : decode cX0_mixWords 30 = .ok (.goto 72, 3) := dk_167 0 72 (dk_at dksX0_mixWords_1 8 rfl rfl)
theorem dX0_mixWords_33 : decode cX0_mixWords 33 = .ok (.aload_n 0, 1) := dk_42 (dk_at dksX0_mixWords_1 11 rfl rfl)
theorem dX0_mixWords_34 : decode cX0_mixWords 34 = .ok (.aload 4, 2) := dk_25 4 (dk_at dksX0_mixWords_1 12 rfl rfl)
theorem dX0_mixWords_36 : decode cX0_mixWords 36 = .ok (.invokevirtual 210, 3) := dk_182 0 210 (dk_at dksX0_mixWords_1 14 rfl rfl)
theorem dX0_mixWords_39 : decode cX0_mixWords 39 = .ok (.invokevirtual 337, 3) := dk_182 1 81 (dk_at dksX0_mixWords_1 17 rfl rfl)
theorem dX0_mixWords_42 : decode cX0_mixWords 42 = .ok (.aload_n 0, 1) := dk_42 (dk_at dksX0_mixWords_1 20 rfl rfl)
theorem dX0_mixWords_43 : decode cX0_mixWords 43 = .ok (.aload 4, 2) := dk_25 4 (dk_at dksX0_mixWords_1 21 rfl rfl)
theorem dX0_mixWords_45 : decode cX0_mixWords 45 = .ok (.invokevirtual 340, 3) := dk_182 1 84 (dk_at dksX0_mixWords_2 0 rfl rfl)
theorem dX0_mixWords_48 : decode cX0_mixWords 48 = .ok (.invokevirtual 337, 3) := dk_182 1 81 (dk_at dksX0_mixWords_2 3 rfl rfl)
theorem dX0_mixWords_51 : decode cX0_mixWords 51 = .ok (.aload_n 0, 1) := dk_42 (dk_at dksX0_mixWords_2 6 rfl rfl)
theorem dX0_mixWords_52 : decode cX0_mixWords 52 = .ok (.aload 4, 2) := dk_25 4 (dk_at dksX0_mixWords_2 7 rfl rfl)
theorem dX0_mixWords_54 : decode cX0_mixWords 54 = .ok (.getfield 134, 3) := dk_180 0 134 (dk_at dksX0_mixWords_2 9 rfl rfl)
theorem dX0_mixWords_57 : decode cX0_mixWords 57 = .ok (.arraylength, 1) := dk_190 (dk_at dksX0_mixWords_2 12 rfl rfl)
theorem dX0_mixWords_58 : decode cX0_mixWords 58 = .ok (.invokevirtual 337, 3) := dk_182 1 81 (dk_at dksX0_mixWords_2 13 rfl rfl)
theorem dX0_mixWords_61 : decode cX0_mixWords 61 = .ok (.aload 4, 2) := dk_25 4 (dk_at dksX0_mixWords_2 16 rfl rfl)
theorem dX0_mixWords_63 : decode cX0_mixWords 63 = .ok (.getfield 134, 3) := dk_180 0 134 (dk_at dksX0_mixWords_2 18 rfl rfl)
theorem dX0_mixWords_66 : decode cX0_mixWords 66 = .ok (.astore 5, 2) := dk_58 5 (dk_at dksX0_mixWords_2 21 rfl rfl)
theorem dX0_mixWords_68 : decode cX0_mixWords 68 = .ok (.aload 5, 2) := dk_25 5 (dk_at dksX0_mixWords_3 0 rfl rfl)
theorem dX0_mixWords_70 : decode cX0_mixWords 70 = .ok (.arraylength, 1) := dk_190 (dk_at dksX0_mixWords_3 2 rfl rfl)
theorem dX0_mixWords_71 : decode cX0_mixWords 71 = .ok (.istore 6, 2) := dk_54 6 (dk_at dksX0_mixWords_3 3 rfl rfl)
theorem dX0_mixWords_73 : decode cX0_mixWords 73 = .ok (.iconst 0, 1) := dk_3 (dk_at dksX0_mixWords_3 5 rfl rfl)
theorem dX0_mixWords_74 : decode cX0_mixWords 74 = .ok (.istore 7, 2) := dk_54 7 (dk_at dksX0_mixWords_3 6 rfl rfl)
theorem dX0_mixWords_76 : decode cX0_mixWords 76 = .ok (.iload 7, 2) := dk_21 7 (dk_at dksX0_mixWords_3 8 rfl rfl)
theorem dX0_mixWords_78 : decode cX0_mixWords 78 = .ok (.iload 6, 2) := dk_21 6 (dk_at dksX0_mixWords_3 10 rfl rfl)
theorem dX0_mixWords_80 : decode cX0_mixWords 80 = .ok (.if_icmp .ge 22, 3) := dk_162 0 22 (dk_at dksX0_mixWords_3 12 rfl rfl)
theorem dX0_mixWords_83 : decode cX0_mixWords 83 = .ok (.aload 5, 2) := dk_25 5 (dk_at dksX0_mixWords_3 15 rfl rfl)
theorem dX0_mixWords_85 : decode cX0_mixWords 85 = .ok (.iload 7, 2) := dk_21 7 (dk_at dksX0_mixWords_3 17 rfl rfl)
theorem dX0_mixWords_87 : decode cX0_mixWords 87 = .ok (.baload, 1) := dk_51 (dk_at dksX0_mixWords_3 19 rfl rfl)
theorem dX0_mixWords_88 : decode cX0_mixWords 88 = .ok (.istore 8, 2) := dk_54 8 (dk_at dksX0_mixWords_3 20 rfl rfl)
theorem dX0_mixWords_90 : decode cX0_mixWords 90 = .ok (.aload_n 0, 1) := dk_42 (dk_at dksX0_mixWords_3 22 rfl rfl)
theorem dX0_mixWords_91 : decode cX0_mixWords 91 = .ok (.iload 8, 2) := dk_21 8 (dk_at dksX0_mixWords_4 0 rfl rfl)
theorem dX0_mixWords_93 : decode cX0_mixWords 93 = .ok (.invokevirtual 337, 3) := dk_182 1 81 (dk_at dksX0_mixWords_4 2 rfl rfl)
theorem dX0_mixWords_96 : decode cX0_mixWords 96 = .ok (.iinc 7 1, 3) := dk_132 7 1 (dk_at dksX0_mixWords_4 5 rfl rfl)
theorem dX0_mixWords_99 : decode cX0_mixWords 99 = .ok (.goto (-23), 3) := dk_167 255 233 (dk_at dksX0_mixWords_4 8 rfl rfl)
theorem dX0_mixWords_102 : decode cX0_mixWords 102 = .ok (.iinc 3 1, 3) := dk_132 3 1 (dk_at dksX0_mixWords_4 11 rfl rfl)
theorem dX0_mixWords_105 : decode cX0_mixWords 105 = .ok (.goto (-95), 3) := dk_167 255 161 (dk_at dksX0_mixWords_4 14 rfl rfl)
theorem dX0_mixWords_108 : decode cX0_mixWords 108 = .ok (.return_, 1) := dk_177 (dk_at dksX0_mixWords_4 17 rfl rfl)
theorem q80 : (Jvm.Cond.initialized "WithinWords") ∈ lw_all := lw_g (lw_at lw_m1 1 rfl) rfl
theorem q102 : (Jvm.Cond.instantiable "WithinWords" (33 : Nat)) ∈ lw_all := lw_g (lw_at lw_m1 23 rfl) rfl
theorem q104 : (Jvm.Cond.instanceMethod ({ cls := "WithinWords", name := "<init>", desc := "()V" } : Jvm.MethodName)) ∈ lw_all := lw_g (lw_at lw_m1 25 rfl) rfl
theorem q105 : (Jvm.Cond.code ({ cls := "WithinWords", name := "<init>", desc := "()V" } : Jvm.MethodName) prog_1_method_6_code (1 : Nat) (Option.none : Option Jvm.ClassFile.FieldType)) ∈ lw_all := lw_g (lw_at lw_m1 26 rfl) rfl
theorem q106 : (Jvm.Cond.methodLink "WithinWords" (24 : Nat) ({ cls := "java/lang/Object", name := "<init>", desc := "()V" } : Jvm.MethodName)) ∈ lw_all := lw_g (lw_at lw_m1 27 rfl) rfl
theorem q109 : (Jvm.Cond.classLink "WithinWords" (33 : Nat) "[I") ∈ lw_all := lw_g (lw_at lw_m1 30 rfl) rfl
theorem q111 : (Jvm.Cond.classLink "WithinWords" (38 : Nat) "[B") ∈ lw_all := lw_g (lw_at lw_m1 32 rfl) rfl
theorem q113 : (Jvm.Cond.classLink "WithinWords" (44 : Nat) "WithinWords$Word") ∈ lw_all := lw_g (lw_at lw_m1 34 rfl) rfl
theorem q115 : (Jvm.Cond.fieldLink "WithinWords" (1 : Nat) "WithinWords" "finding" "I") ∈ lw_all := lw_g (lw_at lw_m1 36 rfl) rfl
theorem q116 : (Jvm.Cond.fieldLink "WithinWords" (7 : Nat) "WithinWords" "findings" "[I") ∈ lw_all := lw_g (lw_at lw_m1 37 rfl) rfl
theorem q117 : (Jvm.Cond.fieldLink "WithinWords" (11 : Nat) "WithinWords" "asked" "I") ∈ lw_all := lw_g (lw_at lw_m1 38 rfl) rfl
theorem q118 : (Jvm.Cond.fieldLink "WithinWords" (14 : Nat) "WithinWords" "many" "J") ∈ lw_all := lw_g (lw_at lw_m1 39 rfl) rfl
theorem q119 : (Jvm.Cond.fieldLink "WithinWords" (18 : Nat) "WithinWords" "upper" "J") ∈ lw_all := lw_g (lw_at lw_m1 40 rfl) rfl
theorem q120 : (Jvm.Cond.fieldLink "WithinWords" (21 : Nat) "WithinWords" "lower" "J") ∈ lw_all := lw_g (lw_at lw_m1 41 rfl) rfl
theorem q121 : (Jvm.Cond.fieldLink "WithinWords" (30 : Nat) "WithinWords" "k" "I") ∈ lw_all := lw_g (lw_at lw_m1 42 rfl) rfl
theorem q122 : (Jvm.Cond.fieldLink "WithinWords" (34 : Nat) "WithinWords" "rows" "[[I") ∈ lw_all := lw_g (lw_at lw_m1 43 rfl) rfl
theorem q123 : (Jvm.Cond.fieldLink "WithinWords" (40 : Nat) "WithinWords" "texts" "[[B") ∈ lw_all := lw_g (lw_at lw_m1 44 rfl) rfl
theorem q124 : (Jvm.Cond.fieldLink "WithinWords" (46 : Nat) "WithinWords" "words" "[LWithinWords$Word;") ∈ lw_all := lw_g (lw_at lw_m1 45 rfl) rfl
theorem q125 : (Jvm.Cond.fieldLink "WithinWords" (143 : Nat) "WithinWords" "reading" "[B") ∈ lw_all := lw_g (lw_at lw_m1 46 rfl) rfl
theorem q126 : (Jvm.Cond.fieldLink "WithinWords" (140 : Nat) "WithinWords" "readAt" "I") ∈ lw_all := lw_g (lw_at lw_m1 47 rfl) rfl
theorem q127 : (Jvm.Cond.fieldLink "WithinWords" (150 : Nat) "WithinWords" "readSize" "I") ∈ lw_all := lw_g (lw_at lw_m1 48 rfl) rfl
theorem q128 : (Jvm.Cond.fieldLink "WithinWords" (50 : Nat) "WithinWords" "read" "[B") ∈ lw_all := lw_g (lw_at lw_m1 49 rfl) rfl
theorem q129 : (Jvm.Cond.fieldLink "WithinWords" (53 : Nat) "WithinWords" "next" "[I") ∈ lw_all := lw_g (lw_at lw_m1 50 rfl) rfl
theorem q130 : (Jvm.Cond.fieldLink "WithinWords" (56 : Nat) "WithinWords" "other" "[I") ∈ lw_all := lw_g (lw_at lw_m1 51 rfl) rfl
theorem q131 : (Jvm.Cond.fieldLink "WithinWords" (59 : Nat) "WithinWords" "early" "[I") ∈ lw_all := lw_g (lw_at lw_m1 52 rfl) rfl
theorem q132 : (Jvm.Cond.fieldLink "WithinWords" (62 : Nat) "WithinWords" "late" "[I") ∈ lw_all := lw_g (lw_at lw_m1 53 rfl) rfl
theorem q133 : (Jvm.Cond.fieldLink "WithinWords" (65 : Nat) "WithinWords" "counts" "[J") ∈ lw_all := lw_g (lw_at lw_m1 54 rfl) rfl
theorem q134 : (Jvm.Cond.fieldLink "WithinWords" (259 : Nat) "WithinWords" "archCount" "I") ∈ lw_all := lw_g (lw_at lw_m1 55 rfl) rfl
theorem q135 : (Jvm.Cond.fieldLink "WithinWords" (262 : Nat) "WithinWords" "restFrom" "I") ∈ lw_all := lw_g (lw_at lw_m1 56 rfl) rfl
theorem q136 : (Jvm.Cond.fieldLink "WithinWords" (69 : Nat) "WithinWords" "queue" "[I") ∈ lw_all := lw_g (lw_at lw_m1 57 rfl) rfl
theorem q137 : (Jvm.Cond.fieldLink "WithinWords" (72 : Nat) "WithinWords" "before" "[I") ∈ lw_all := lw_g (lw_at lw_m1 58 rfl) rfl
theorem q138 : (Jvm.Cond.fieldLink "WithinWords" (75 : Nat) "WithinWords" "by" "[I") ∈ lw_all := lw_g (lw_at lw_m1 59 rfl) rfl
theorem q139 : (Jvm.Cond.fieldLink "WithinWords" (272 : Nat) "WithinWords" "partedAt" "I") ∈ lw_all := lw_g (lw_at lw_m1 60 rfl) rfl
theorem q140 : (Jvm.Cond.fieldLink "WithinWords" (275 : Nat) "WithinWords" "partedBy" "I") ∈ lw_all := lw_g (lw_at lw_m1 61 rfl) rfl
theorem q141 : (Jvm.Cond.fieldLink "WithinWords" (281 : Nat) "WithinWords" "someCount" "I") ∈ lw_all := lw_g (lw_at lw_m1 62 rfl) rfl
theorem q142 : (Jvm.Cond.fieldLink "WithinWords" (78 : Nat) "WithinWords" "some" "[I") ∈ lw_all := lw_g (lw_at lw_m1 63 rfl) rfl
theorem q143 : (Jvm.Cond.fieldLink "WithinWords" (81 : Nat) "WithinWords" "stepOf" "[I") ∈ lw_all := lw_g (lw_at lw_m1 64 rfl) rfl
theorem q144 : (Jvm.Cond.fieldLink "WithinWords" (84 : Nat) "WithinWords" "tables" "[I") ∈ lw_all := lw_g (lw_at lw_m1 65 rfl) rfl
theorem q145 : (Jvm.Cond.fieldLink "WithinWords" (87 : Nat) "WithinWords" "best" "[I") ∈ lw_all := lw_g (lw_at lw_m1 66 rfl) rfl
theorem q146 : (Jvm.Cond.fieldLink "WithinWords" (90 : Nat) "WithinWords" "firstLetter" "[I") ∈ lw_all := lw_g (lw_at lw_m1 67 rfl) rfl
theorem q147 : (Jvm.Cond.fieldLink "WithinWords" (334 : Nat) "WithinWords" "h" "J") ∈ lw_all := lw_g (lw_at lw_m1 68 rfl) rfl
theorem q148 : (Jvm.Cond.lays "WithinWords" "WithinWords" "finding" "I") ∈ lw_all := lw_g (lw_at lw_m1 69 rfl) rfl
theorem q149 : (Jvm.Cond.soleField "WithinWords" "finding") ∈ lw_all := lw_g (lw_at lw_m1 70 rfl) rfl
theorem q150 : (Jvm.Cond.laysFinal "WithinWords" "WithinWords" "findings" "[I") ∈ lw_all := lw_g (lw_at lw_m1 71 rfl) rfl
theorem q151 : (Jvm.Cond.soleField "WithinWords" "findings") ∈ lw_all := lw_g (lw_at lw_m1 72 rfl) rfl
theorem q152 : (Jvm.Cond.lays "WithinWords" "WithinWords" "asked" "I") ∈ lw_all := lw_g (lw_at lw_m1 73 rfl) rfl
theorem q153 : (Jvm.Cond.soleField "WithinWords" "asked") ∈ lw_all := lw_g (lw_at lw_m1 74 rfl) rfl
theorem q154 : (Jvm.Cond.lays "WithinWords" "WithinWords" "many" "J") ∈ lw_all := lw_g (lw_at lw_m1 75 rfl) rfl
theorem q155 : (Jvm.Cond.soleField "WithinWords" "many") ∈ lw_all := lw_g (lw_at lw_m1 76 rfl) rfl
theorem q156 : (Jvm.Cond.lays "WithinWords" "WithinWords" "upper" "J") ∈ lw_all := lw_g (lw_at lw_m1 77 rfl) rfl
theorem q157 : (Jvm.Cond.soleField "WithinWords" "upper") ∈ lw_all := lw_g (lw_at lw_m1 78 rfl) rfl
theorem q158 : (Jvm.Cond.lays "WithinWords" "WithinWords" "lower" "J") ∈ lw_all := lw_g (lw_at lw_m1 79 rfl) rfl
theorem q159 : (Jvm.Cond.soleField "WithinWords" "lower") ∈ lw_all := lw_g (lw_at lw_m1 80 rfl) rfl
theorem q160 : (Jvm.Cond.lays "WithinWords" "WithinWords" "k" "I") ∈ lw_all := lw_g (lw_at lw_m1 81 rfl) rfl
theorem q161 : (Jvm.Cond.soleField "WithinWords" "k") ∈ lw_all := lw_g (lw_at lw_m1 82 rfl) rfl
theorem q162 : (Jvm.Cond.laysFinal "WithinWords" "WithinWords" "rows" "[[I") ∈ lw_all := lw_g (lw_at lw_m1 83 rfl) rfl
theorem q163 : (Jvm.Cond.soleField "WithinWords" "rows") ∈ lw_all := lw_g (lw_at lw_m1 84 rfl) rfl
theorem q164 : (Jvm.Cond.laysFinal "WithinWords" "WithinWords" "texts" "[[B") ∈ lw_all := lw_g (lw_at lw_m1 85 rfl) rfl
theorem q165 : (Jvm.Cond.soleField "WithinWords" "texts") ∈ lw_all := lw_g (lw_at lw_m1 86 rfl) rfl
theorem q166 : (Jvm.Cond.laysFinal "WithinWords" "WithinWords" "words" "[LWithinWords$Word;") ∈ lw_all := lw_g (lw_at lw_m1 87 rfl) rfl
theorem q167 : (Jvm.Cond.soleField "WithinWords" "words") ∈ lw_all := lw_g (lw_at lw_m1 88 rfl) rfl
theorem q168 : (Jvm.Cond.lays "WithinWords" "WithinWords" "reading" "[B") ∈ lw_all := lw_g (lw_at lw_m1 89 rfl) rfl
theorem q169 : (Jvm.Cond.soleField "WithinWords" "reading") ∈ lw_all := lw_g (lw_at lw_m1 90 rfl) rfl
theorem q170 : (Jvm.Cond.lays "WithinWords" "WithinWords" "readAt" "I") ∈ lw_all := lw_g (lw_at lw_m1 91 rfl) rfl
theorem q171 : (Jvm.Cond.soleField "WithinWords" "readAt") ∈ lw_all := lw_g (lw_at lw_m1 92 rfl) rfl
theorem q172 : (Jvm.Cond.lays "WithinWords" "WithinWords" "readSize" "I") ∈ lw_all := lw_g (lw_at lw_m1 93 rfl) rfl
theorem q173 : (Jvm.Cond.soleField "WithinWords" "readSize") ∈ lw_all := lw_g (lw_at lw_m1 94 rfl) rfl
theorem q174 : (Jvm.Cond.laysFinal "WithinWords" "WithinWords" "read" "[B") ∈ lw_all := lw_g (lw_at lw_m1 95 rfl) rfl
theorem q175 : (Jvm.Cond.soleField "WithinWords" "read") ∈ lw_all := lw_g (lw_at lw_m1 96 rfl) rfl
theorem q176 : (Jvm.Cond.laysFinal "WithinWords" "WithinWords" "next" "[I") ∈ lw_all := lw_g (lw_at lw_m1 97 rfl) rfl
theorem q177 : (Jvm.Cond.soleField "WithinWords" "next") ∈ lw_all := lw_g (lw_at lw_m1 98 rfl) rfl
theorem q178 : (Jvm.Cond.laysFinal "WithinWords" "WithinWords" "other" "[I") ∈ lw_all := lw_g (lw_at lw_m1 99 rfl) rfl
theorem q179 : (Jvm.Cond.soleField "WithinWords" "other") ∈ lw_all := lw_g (lw_at lw_m1 100 rfl) rfl
theorem q180 : (Jvm.Cond.laysFinal "WithinWords" "WithinWords" "early" "[I") ∈ lw_all := lw_g (lw_at lw_m1 101 rfl) rfl
theorem q181 : (Jvm.Cond.soleField "WithinWords" "early") ∈ lw_all := lw_g (lw_at lw_m1 102 rfl) rfl
theorem q182 : (Jvm.Cond.laysFinal "WithinWords" "WithinWords" "late" "[I") ∈ lw_all := lw_g (lw_at lw_m1 103 rfl) rfl
theorem q183 : (Jvm.Cond.soleField "WithinWords" "late") ∈ lw_all := lw_g (lw_at lw_m1 104 rfl) rfl
theorem q184 : (Jvm.Cond.laysFinal "WithinWords" "WithinWords" "counts" "[J") ∈ lw_all := lw_g (lw_at lw_m1 105 rfl) rfl
theorem q185 : (Jvm.Cond.soleField "WithinWords" "counts") ∈ lw_all := lw_g (lw_at lw_m1 106 rfl) rfl
theorem q186 : (Jvm.Cond.lays "WithinWords" "WithinWords" "archCount" "I") ∈ lw_all := lw_g (lw_at lw_m1 107 rfl) rfl
theorem q187 : (Jvm.Cond.soleField "WithinWords" "archCount") ∈ lw_all := lw_g (lw_at lw_m1 108 rfl) rfl
theorem q188 : (Jvm.Cond.lays "WithinWords" "WithinWords" "restFrom" "I") ∈ lw_all := lw_g (lw_at lw_m1 109 rfl) rfl
theorem q189 : (Jvm.Cond.soleField "WithinWords" "restFrom") ∈ lw_all := lw_g (lw_at lw_m1 110 rfl) rfl
theorem q190 : (Jvm.Cond.laysFinal "WithinWords" "WithinWords" "queue" "[I") ∈ lw_all := lw_g (lw_at lw_m1 111 rfl) rfl
theorem q191 : (Jvm.Cond.soleField "WithinWords" "queue") ∈ lw_all := lw_g (lw_at lw_m1 112 rfl) rfl
theorem q192 : (Jvm.Cond.laysFinal "WithinWords" "WithinWords" "before" "[I") ∈ lw_all := lw_g (lw_at lw_m1 113 rfl) rfl
theorem q193 : (Jvm.Cond.soleField "WithinWords" "before") ∈ lw_all := lw_g (lw_at lw_m1 114 rfl) rfl
theorem q194 : (Jvm.Cond.laysFinal "WithinWords" "WithinWords" "by" "[I") ∈ lw_all := lw_g (lw_at lw_m1 115 rfl) rfl
theorem q195 : (Jvm.Cond.soleField "WithinWords" "by") ∈ lw_all := lw_g (lw_at lw_m1 116 rfl) rfl
theorem q196 : (Jvm.Cond.lays "WithinWords" "WithinWords" "partedAt" "I") ∈ lw_all := lw_g (lw_at lw_m1 117 rfl) rfl
theorem q197 : (Jvm.Cond.soleField "WithinWords" "partedAt") ∈ lw_all := lw_g (lw_at lw_m1 118 rfl) rfl
theorem q198 : (Jvm.Cond.lays "WithinWords" "WithinWords" "partedBy" "I") ∈ lw_all := lw_g (lw_at lw_m1 119 rfl) rfl
theorem q199 : (Jvm.Cond.soleField "WithinWords" "partedBy") ∈ lw_all := lw_g (lw_at lw_m1 120 rfl) rfl
theorem q200 : (Jvm.Cond.lays "WithinWords" "WithinWords" "someCount" "I") ∈ lw_all := lw_g (lw_at lw_m1 121 rfl) rfl
theorem q201 : (Jvm.Cond.soleField "WithinWords" "someCount") ∈ lw_all := lw_g (lw_at lw_m1 122 rfl) rfl
theorem q202 : (Jvm.Cond.laysFinal "WithinWords" "WithinWords" "some" "[I") ∈ lw_all := lw_g (lw_at lw_m1 123 rfl) rfl
theorem q203 : (Jvm.Cond.soleField "WithinWords" "some") ∈ lw_all := lw_g (lw_at lw_m1 124 rfl) rfl
theorem q204 : (Jvm.Cond.laysFinal "WithinWords" "WithinWords" "stepOf" "[I") ∈ lw_all := lw_g (lw_at lw_m1 125 rfl) rfl
theorem q205 : (Jvm.Cond.soleField "WithinWords" "stepOf") ∈ lw_all := lw_g (lw_at lw_m1 126 rfl) rfl
theorem q206 : (Jvm.Cond.laysFinal "WithinWords" "WithinWords" "tables" "[I") ∈ lw_all := lw_g (lw_at lw_m1 127 rfl) rfl
theorem q207 : (Jvm.Cond.soleField "WithinWords" "tables") ∈ lw_all := lw_g (lw_at lw_m1 128 rfl) rfl
theorem q208 : (Jvm.Cond.laysFinal "WithinWords" "WithinWords" "best" "[I") ∈ lw_all := lw_g (lw_at lw_m1 129 rfl) rfl
theorem q209 : (Jvm.Cond.soleField "WithinWords" "best") ∈ lw_all := lw_g (lw_at lw_m1 130 rfl) rfl
theorem q210 : (Jvm.Cond.laysFinal "WithinWords" "WithinWords" "firstLetter" "[I") ∈ lw_all := lw_g (lw_at lw_m1 131 rfl) rfl
theorem q211 : (Jvm.Cond.soleField "WithinWords" "firstLetter") ∈ lw_all := lw_g (lw_at lw_m1 132 rfl) rfl
theorem q212 : (Jvm.Cond.lays "WithinWords" "WithinWords" "h" "J") ∈ lw_all := lw_g (lw_at lw_m1 133 rfl) rfl
theorem q213 : (Jvm.Cond.soleField "WithinWords" "h") ∈ lw_all := lw_g (lw_at lw_m1 134 rfl) rfl
theorem q214 : (Jvm.Cond.superclass "WithinWords" "java/lang/Object") ∈ lw_all := lw_g (lw_at lw_m1 135 rfl) rfl
theorem q219 : (Jvm.Cond.instanceMethod ({ cls := "WithinWords", name := "row", desc := "(II)I" } : Jvm.MethodName)) ∈ lw_all := lw_g (lw_at lw_m1 140 rfl) rfl
theorem q220 : (Jvm.Cond.selects "WithinWords" ({ cls := "WithinWords", name := "row", desc := "(II)I" } : Jvm.MethodName) ({ cls := "WithinWords", name := "row", desc := "(II)I" } : Jvm.MethodName)) ∈ lw_all := lw_g (lw_at lw_m1 141 rfl) rfl
theorem q221 : (Jvm.Cond.codeWith ({ cls := "WithinWords", name := "row", desc := "(II)I" } : Jvm.MethodName) prog_1_method_9_code (4 : Nat) (Option.some Jvm.ClassFile.FieldType.int) [((15 : Nat), (25 : Nat), (26 : Nat), (101 : Nat))]) ∈ lw_all := lw_g (lw_at lw_m1 142 rfl) rfl
theorem q222 : (Jvm.Cond.classLink "WithinWords" (101 : Nat) "java/lang/NegativeArraySizeException") ∈ lw_all := lw_g (lw_at lw_m1 143 rfl) rfl
theorem q307 : (Jvm.Cond.methodLink "WithinWords" (97 : Nat) ({ cls := "WithinWords", name := "isRow", desc := "(I)Z" } : Jvm.MethodName)) ∈ lw_all := lw_g (lw_at lw_m1 228 rfl) rfl
theorem q308 : (Jvm.Cond.static ({ cls := "WithinWords", name := "isRow", desc := "(I)Z" } : Jvm.MethodName)) ∈ lw_all := lw_g (lw_at lw_m1 229 rfl) rfl
theorem q309 : (Jvm.Cond.code ({ cls := "WithinWords", name := "isRow", desc := "(I)Z" } : Jvm.MethodName) prog_1_method_7_code (1 : Nat) (Option.some Jvm.ClassFile.FieldType.boolean)) ∈ lw_all := lw_g (lw_at lw_m1 230 rfl) rfl
theorem q310 : (Jvm.Cond.methodLink "WithinWords" (93 : Nat) ({ cls := "WithinWords", name := "isIn", desc := "(III)Z" } : Jvm.MethodName)) ∈ lw_all := lw_g (lw_at lw_m1 231 rfl) rfl
theorem q311 : (Jvm.Cond.static ({ cls := "WithinWords", name := "isIn", desc := "(III)Z" } : Jvm.MethodName)) ∈ lw_all := lw_g (lw_at lw_m1 232 rfl) rfl
theorem q312 : (Jvm.Cond.code ({ cls := "WithinWords", name := "isIn", desc := "(III)Z" } : Jvm.MethodName) prog_1_method_1_code (3 : Nat) (Option.some Jvm.ClassFile.FieldType.boolean)) ∈ lw_all := lw_g (lw_at lw_m1 233 rfl) rfl
theorem q313 : (Jvm.Cond.methodLink "WithinWords" (103 : Nat) ({ cls := "WithinWords", name := "met", desc := "(I)I" } : Jvm.MethodName)) ∈ lw_all := lw_g (lw_at lw_m1 234 rfl) rfl
theorem q314 : (Jvm.Cond.privateMethod ({ cls := "WithinWords", name := "met", desc := "(I)I" } : Jvm.MethodName)) ∈ lw_tbl := lw_at lw_m1 235 rfl
theorem q315 : (Jvm.Cond.instanceMethod ({ cls := "WithinWords", name := "met", desc := "(I)I" } : Jvm.MethodName)) ∈ lw_all := lw_g (lw_at lw_m1 236 rfl) rfl
theorem q316 : (Jvm.Cond.code ({ cls := "WithinWords", name := "met", desc := "(I)I" } : Jvm.MethodName) prog_1_method_2_code (2 : Nat) (Option.some Jvm.ClassFile.FieldType.int)) ∈ lw_all := lw_g (lw_at lw_m1 237 rfl) rfl
theorem q318 : (Jvm.Cond.instanceMethod ({ cls := "WithinWords", name := "lay", desc := "(III)I" } : Jvm.MethodName)) ∈ lw_all := lw_g (lw_at lw_m1 239 rfl) rfl
theorem q319 : (Jvm.Cond.selects "WithinWords" ({ cls := "WithinWords", name := "lay", desc := "(III)I" } : Jvm.MethodName) ({ cls := "WithinWords", name := "lay", desc := "(III)I" } : Jvm.MethodName)) ∈ lw_all := lw_g (lw_at lw_m2 0 rfl) rfl
theorem q320 : (Jvm.Cond.code ({ cls := "WithinWords", name := "lay", desc := "(III)I" } : Jvm.MethodName) prog_1_method_10_code (5 : Nat) (Option.some Jvm.ClassFile.FieldType.int)) ∈ lw_all := lw_g (lw_at lw_m2 1 rfl) rfl
theorem q321 : (Jvm.Cond.methodLink "WithinWords" (107 : Nat) ({ cls := "WithinWords", name := "at", desc := "(II)I" } : Jvm.MethodName)) ∈ lw_all := lw_g (lw_at lw_m2 2 rfl) rfl
theorem q322 : (Jvm.Cond.instanceMethod ({ cls := "WithinWords", name := "at", desc := "(II)I" } : Jvm.MethodName)) ∈ lw_all := lw_g (lw_at lw_m2 3 rfl) rfl
theorem q323 : (Jvm.Cond.selects "WithinWords" ({ cls := "WithinWords", name := "at", desc := "(II)I" } : Jvm.MethodName) ({ cls := "WithinWords", name := "at", desc := "(II)I" } : Jvm.MethodName)) ∈ lw_all := lw_g (lw_at lw_m2 4 rfl) rfl
theorem q324 : (Jvm.Cond.codeWith ({ cls := "WithinWords", name := "at", desc := "(II)I" } : Jvm.MethodName) prog_1_method_11_code (4 : Nat) (Option.some Jvm.ClassFile.FieldType.int) [((9 : Nat), (22 : Nat), (23 : Nat), (114 : Nat)), ((9 : Nat), (22 : Nat), (30 : Nat), (116 : Nat))]) ∈ lw_all := lw_g (lw_at lw_m2 5 rfl) rfl
theorem q325 : (Jvm.Cond.classLink "WithinWords" (114 : Nat) "java/lang/NullPointerException") ∈ lw_all := lw_g (lw_at lw_m2 6 rfl) rfl
theorem q350 : (Jvm.Cond.classLink "WithinWords" (116 : Nat) "java/lang/ArrayIndexOutOfBoundsException") ∈ lw_all := lw_g (lw_at lw_m2 31 rfl) rfl
theorem q369 : (Jvm.Cond.methodLink "WithinWords" (111 : Nat) ({ cls := "WithinWords", name := "ask", desc := "(II)I" } : Jvm.MethodName)) ∈ lw_all := lw_g (lw_at lw_m2 50 rfl) rfl
theorem q370 : (Jvm.Cond.privateMethod ({ cls := "WithinWords", name := "ask", desc := "(II)I" } : Jvm.MethodName)) ∈ lw_tbl := lw_at lw_m2 51 rfl
theorem q371 : (Jvm.Cond.instanceMethod ({ cls := "WithinWords", name := "ask", desc := "(II)I" } : Jvm.MethodName)) ∈ lw_all := lw_g (lw_at lw_m2 52 rfl) rfl
theorem q372 : (Jvm.Cond.code ({ cls := "WithinWords", name := "ask", desc := "(II)I" } : Jvm.MethodName) prog_1_method_3_code (3 : Nat) (Option.some Jvm.ClassFile.FieldType.int)) ∈ lw_all := lw_g (lw_at lw_m2 53 rfl) rfl
theorem q375 : (Jvm.Cond.instanceMethod ({ cls := "WithinWords", name := "tear", desc := "(I)I" } : Jvm.MethodName)) ∈ lw_all := lw_g (lw_at lw_m2 56 rfl) rfl
theorem q376 : (Jvm.Cond.selects "WithinWords" ({ cls := "WithinWords", name := "tear", desc := "(I)I" } : Jvm.MethodName) ({ cls := "WithinWords", name := "tear", desc := "(I)I" } : Jvm.MethodName)) ∈ lw_all := lw_g (lw_at lw_m2 57 rfl) rfl
theorem q377 : (Jvm.Cond.codeWith ({ cls := "WithinWords", name := "tear", desc := "(I)I" } : Jvm.MethodName) prog_1_method_12_code (3 : Nat) (Option.some Jvm.ClassFile.FieldType.int) [((9 : Nat), (25 : Nat), (26 : Nat), (114 : Nat))]) ∈ lw_all := lw_g (lw_at lw_m2 58 rfl) rfl
theorem q379 : (Jvm.Cond.instanceMethod ({ cls := "WithinWords", name := "copy", desc := "(IIIII)I" } : Jvm.MethodName)) ∈ lw_all := lw_g (lw_at lw_m2 60 rfl) rfl
theorem q380 : (Jvm.Cond.selects "WithinWords" ({ cls := "WithinWords", name := "copy", desc := "(IIIII)I" } : Jvm.MethodName) ({ cls := "WithinWords", name := "copy", desc := "(IIIII)I" } : Jvm.MethodName)) ∈ lw_all := lw_g (lw_at lw_m2 61 rfl) rfl
theorem q381 : (Jvm.Cond.codeWith ({ cls := "WithinWords", name := "copy", desc := "(IIIII)I" } : Jvm.MethodName) prog_1_method_13_code (7 : Nat) (Option.some Jvm.ClassFile.FieldType.int) [((27 : Nat), (48 : Nat), (49 : Nat), (114 : Nat)), ((27 : Nat), (48 : Nat), (57 : Nat), (124 : Nat))]) ∈ lw_all := lw_g (lw_at lw_m2 62 rfl) rfl
theorem q382 : (Jvm.Cond.classLink "WithinWords" (124 : Nat) "java/lang/IndexOutOfBoundsException") ∈ lw_all := lw_g (lw_at lw_m2 63 rfl) rfl
theorem q383 : (Jvm.Cond.methodLink "WithinWords" (118 : Nat) ({ cls := "java/lang/System", name := "arraycopy", desc := "(Ljava/lang/Object;ILjava/lang/Object;II)V" } : Jvm.MethodName)) ∈ lw_all := lw_g (lw_at lw_m2 64 rfl) rfl
theorem q387 : (Jvm.Cond.instanceMethod ({ cls := "WithinWords", name := "mean", desc := "(I)I" } : Jvm.MethodName)) ∈ lw_all := lw_g (lw_at lw_m2 68 rfl) rfl
theorem q388 : (Jvm.Cond.selects "WithinWords" ({ cls := "WithinWords", name := "mean", desc := "(I)I" } : Jvm.MethodName) ({ cls := "WithinWords", name := "mean", desc := "(I)I" } : Jvm.MethodName)) ∈ lw_all := lw_g (lw_at lw_m2 69 rfl) rfl
theorem q389 : (Jvm.Cond.codeWith ({ cls := "WithinWords", name := "mean", desc := "(I)I" } : Jvm.MethodName) prog_1_method_14_code (8 : Nat) (Option.some Jvm.ClassFile.FieldType.int) [((9 : Nat), (69 : Nat), (70 : Nat), (114 : Nat)), ((9 : Nat), (69 : Nat), (77 : Nat), (126 : Nat))]) ∈ lw_all := lw_g (lw_at lw_m2 70 rfl) rfl
theorem q390 : (Jvm.Cond.classLink "WithinWords" (126 : Nat) "java/lang/ArithmeticException") ∈ lw_all := lw_g (lw_at lw_m2 71 rfl) rfl
theorem q405 : (Jvm.Cond.instanceMethod ({ cls := "WithinWords", name := "text", desc := "(II)I" } : Jvm.MethodName)) ∈ lw_all := lw_g (lw_at lw_m2 86 rfl) rfl
theorem q406 : (Jvm.Cond.selects "WithinWords" ({ cls := "WithinWords", name := "text", desc := "(II)I" } : Jvm.MethodName) ({ cls := "WithinWords", name := "text", desc := "(II)I" } : Jvm.MethodName)) ∈ lw_all := lw_g (lw_at lw_m2 87 rfl) rfl
theorem q407 : (Jvm.Cond.codeWith ({ cls := "WithinWords", name := "text", desc := "(II)I" } : Jvm.MethodName) prog_1_method_15_code (5 : Nat) (Option.some Jvm.ClassFile.FieldType.int) [((15 : Nat), (48 : Nat), (49 : Nat), (101 : Nat))]) ∈ lw_all := lw_g (lw_at lw_m2 88 rfl) rfl
theorem q408 : (Jvm.Cond.methodLink "WithinWords" (128 : Nat) ({ cls := "WithinWords", name := "isText", desc := "(I)Z" } : Jvm.MethodName)) ∈ lw_all := lw_g (lw_at lw_m2 89 rfl) rfl
theorem q409 : (Jvm.Cond.static ({ cls := "WithinWords", name := "isText", desc := "(I)Z" } : Jvm.MethodName)) ∈ lw_all := lw_g (lw_at lw_m2 90 rfl) rfl
theorem q410 : (Jvm.Cond.code ({ cls := "WithinWords", name := "isText", desc := "(I)Z" } : Jvm.MethodName) prog_1_method_8_code (1 : Nat) (Option.some Jvm.ClassFile.FieldType.boolean)) ∈ lw_all := lw_g (lw_at lw_m2 91 rfl) rfl
theorem q412 : (Jvm.Cond.instanceMethod ({ cls := "WithinWords", name := "put", desc := "(III)I" } : Jvm.MethodName)) ∈ lw_all := lw_g (lw_at lw_m2 93 rfl) rfl
theorem q413 : (Jvm.Cond.selects "WithinWords" ({ cls := "WithinWords", name := "put", desc := "(III)I" } : Jvm.MethodName) ({ cls := "WithinWords", name := "put", desc := "(III)I" } : Jvm.MethodName)) ∈ lw_all := lw_g (lw_at lw_m2 94 rfl) rfl
theorem q414 : (Jvm.Cond.codeWith ({ cls := "WithinWords", name := "put", desc := "(III)I" } : Jvm.MethodName) prog_1_method_16_code (5 : Nat) (Option.some Jvm.ClassFile.FieldType.int) [((9 : Nat), (35 : Nat), (36 : Nat), (114 : Nat)), ((9 : Nat), (35 : Nat), (44 : Nat), (116 : Nat))]) ∈ lw_all := lw_g (lw_at lw_m2 95 rfl) rfl
theorem q416 : (Jvm.Cond.instanceMethod ({ cls := "WithinWords", name := "letters", desc := "(I)I" } : Jvm.MethodName)) ∈ lw_all := lw_g (lw_at lw_m2 97 rfl) rfl
theorem q417 : (Jvm.Cond.selects "WithinWords" ({ cls := "WithinWords", name := "letters", desc := "(I)I" } : Jvm.MethodName) ({ cls := "WithinWords", name := "letters", desc := "(I)I" } : Jvm.MethodName)) ∈ lw_all := lw_g (lw_at lw_m2 98 rfl) rfl
theorem q418 : (Jvm.Cond.code ({ cls := "WithinWords", name := "letters", desc := "(I)I" } : Jvm.MethodName) prog_1_method_22_code (7 : Nat) (Option.some Jvm.ClassFile.FieldType.int)) ∈ lw_all := lw_g (lw_at lw_m2 99 rfl) rfl
theorem q420 : (Jvm.Cond.instanceMethod ({ cls := "WithinWords", name := "word", desc := "(II)I" } : Jvm.MethodName)) ∈ lw_all := lw_g (lw_at lw_m2 101 rfl) rfl
theorem q421 : (Jvm.Cond.selects "WithinWords" ({ cls := "WithinWords", name := "word", desc := "(II)I" } : Jvm.MethodName) ({ cls := "WithinWords", name := "word", desc := "(II)I" } : Jvm.MethodName)) ∈ lw_all := lw_g (lw_at lw_m2 102 rfl) rfl
theorem q422 : (Jvm.Cond.codeWith ({ cls := "WithinWords", name := "word", desc := "(II)I" } : Jvm.MethodName) prog_1_method_23_code (5 : Nat) (Option.some Jvm.ClassFile.FieldType.int) [((16 : Nat), (63 : Nat), (101 : Nat), (114 : Nat)), ((64 : Nat), (100 : Nat), (101 : Nat), (114 : Nat))]) ∈ lw_all := lw_g (lw_at lw_m2 103 rfl) rfl
theorem q423 : (Jvm.Cond.methodLink "WithinWords" (131 : Nat) ({ cls := "WithinWords", name := "isWord", desc := "(I)Z" } : Jvm.MethodName)) ∈ lw_all := lw_g (lw_at lw_m2 104 rfl) rfl
theorem q424 : (Jvm.Cond.static ({ cls := "WithinWords", name := "isWord", desc := "(I)Z" } : Jvm.MethodName)) ∈ lw_all := lw_g (lw_at lw_m2 105 rfl) rfl
theorem q425 : (Jvm.Cond.code ({ cls := "WithinWords", name := "isWord", desc := "(I)Z" } : Jvm.MethodName) prog_1_method_18_code (1 : Nat) (Option.some Jvm.ClassFile.FieldType.boolean)) ∈ lw_all := lw_g (lw_at lw_m2 106 rfl) rfl
theorem q427 : (Jvm.Cond.methodLink "WithinWords" (137 : Nat) ({ cls := "WithinWords$Word", name := "<init>", desc := "([B)V" } : Jvm.MethodName)) ∈ lw_all := lw_g (lw_at lw_m2 108 rfl) rfl
theorem q432 : (Jvm.Cond.fieldLinkNest "WithinWords" (134 : Nat) "WithinWords$Word" "letters" "[B" "WithinWords") ∈ lw_tbl := lw_at lw_m2 113 rfl
theorem q437 : (Jvm.Cond.instanceMethod ({ cls := "WithinWords", name := "fault", desc := "(I)I" } : Jvm.MethodName)) ∈ lw_all := lw_g (lw_at lw_m2 118 rfl) rfl
theorem q438 : (Jvm.Cond.selects "WithinWords" ({ cls := "WithinWords", name := "fault", desc := "(I)I" } : Jvm.MethodName) ({ cls := "WithinWords", name := "fault", desc := "(I)I" } : Jvm.MethodName)) ∈ lw_all := lw_g (lw_at lw_m2 119 rfl) rfl
theorem q439 : (Jvm.Cond.code ({ cls := "WithinWords", name := "fault", desc := "(I)I" } : Jvm.MethodName) prog_1_method_30_code (2 : Nat) (Option.some Jvm.ClassFile.FieldType.int)) ∈ lw_all := lw_g (lw_at lw_m2 120 rfl) rfl
theorem q440 : (Jvm.Cond.methodLink "WithinWords" (172 : Nat) ({ cls := "WithinWords", name := "reads", desc := "([B)I" } : Jvm.MethodName)) ∈ lw_all := lw_g (lw_at lw_m2 121 rfl) rfl
theorem q441 : (Jvm.Cond.privateMethod ({ cls := "WithinWords", name := "reads", desc := "([B)I" } : Jvm.MethodName)) ∈ lw_tbl := lw_at lw_m2 122 rfl
theorem q442 : (Jvm.Cond.instanceMethod ({ cls := "WithinWords", name := "reads", desc := "([B)I" } : Jvm.MethodName)) ∈ lw_all := lw_g (lw_at lw_m2 123 rfl) rfl
theorem q443 : (Jvm.Cond.code ({ cls := "WithinWords", name := "reads", desc := "([B)I" } : Jvm.MethodName) prog_1_method_29_code (2 : Nat) (Option.some Jvm.ClassFile.FieldType.int)) ∈ lw_all := lw_g (lw_at lw_m2 124 rfl) rfl
theorem q444 : (Jvm.Cond.methodLink "WithinWords" (169 : Nat) ({ cls := "WithinWords", name := "skips", desc := "()V" } : Jvm.MethodName)) ∈ lw_all := lw_g (lw_at lw_m2 125 rfl) rfl
theorem q445 : (Jvm.Cond.privateMethod ({ cls := "WithinWords", name := "skips", desc := "()V" } : Jvm.MethodName)) ∈ lw_tbl := lw_at lw_m2 126 rfl
theorem q446 : (Jvm.Cond.instanceMethod ({ cls := "WithinWords", name := "skips", desc := "()V" } : Jvm.MethodName)) ∈ lw_all := lw_g (lw_at lw_m2 127 rfl) rfl
theorem q447 : (Jvm.Cond.code ({ cls := "WithinWords", name := "skips", desc := "()V" } : Jvm.MethodName) prog_1_method_25_code (1 : Nat) (Option.none : Option Jvm.ClassFile.FieldType)) ∈ lw_all := lw_g (lw_at lw_m2 128 rfl) rfl
theorem q448 : (Jvm.Cond.methodLink "WithinWords" (146 : Nat) ({ cls := "WithinWords", name := "here", desc := "()I" } : Jvm.MethodName)) ∈ lw_all := lw_g (lw_at lw_m2 129 rfl) rfl
theorem q449 : (Jvm.Cond.privateMethod ({ cls := "WithinWords", name := "here", desc := "()I" } : Jvm.MethodName)) ∈ lw_tbl := lw_at lw_m2 130 rfl
theorem q450 : (Jvm.Cond.instanceMethod ({ cls := "WithinWords", name := "here", desc := "()I" } : Jvm.MethodName)) ∈ lw_all := lw_g (lw_at lw_m2 131 rfl) rfl
theorem q451 : (Jvm.Cond.code ({ cls := "WithinWords", name := "here", desc := "()I" } : Jvm.MethodName) prog_1_method_24_code (1 : Nat) (Option.some Jvm.ClassFile.FieldType.int)) ∈ lw_all := lw_g (lw_at lw_m2 132 rfl) rfl
theorem q452 : (Jvm.Cond.methodLink "WithinWords" (162 : Nat) ({ cls := "WithinWords", name := "readsItems", desc := "(I)Z" } : Jvm.MethodName)) ∈ lw_all := lw_g (lw_at lw_m2 133 rfl) rfl
theorem q453 : (Jvm.Cond.privateMethod ({ cls := "WithinWords", name := "readsItems", desc := "(I)Z" } : Jvm.MethodName)) ∈ lw_tbl := lw_at lw_m2 134 rfl
theorem q454 : (Jvm.Cond.instanceMethod ({ cls := "WithinWords", name := "readsItems", desc := "(I)Z" } : Jvm.MethodName)) ∈ lw_all := lw_g (lw_at lw_m2 135 rfl) rfl
theorem q455 : (Jvm.Cond.code ({ cls := "WithinWords", name := "readsItems", desc := "(I)Z" } : Jvm.MethodName) prog_1_method_28_code (5 : Nat) (Option.some Jvm.ClassFile.FieldType.boolean)) ∈ lw_all := lw_g (lw_at lw_m2 136 rfl) rfl
theorem q456 : (Jvm.Cond.methodLink "WithinWords" (158 : Nat) ({ cls := "WithinWords", name := "add", desc := "(B)V" } : Jvm.MethodName)) ∈ lw_all := lw_g (lw_at lw_m2 137 rfl) rfl
theorem q457 : (Jvm.Cond.privateMethod ({ cls := "WithinWords", name := "add", desc := "(B)V" } : Jvm.MethodName)) ∈ lw_tbl := lw_at lw_m2 138 rfl
theorem q458 : (Jvm.Cond.instanceMethod ({ cls := "WithinWords", name := "add", desc := "(B)V" } : Jvm.MethodName)) ∈ lw_all := lw_g (lw_at lw_m2 139 rfl) rfl
theorem q459 : (Jvm.Cond.code ({ cls := "WithinWords", name := "add", desc := "(B)V" } : Jvm.MethodName) prog_1_method_26_code (2 : Nat) (Option.none : Option Jvm.ClassFile.FieldType)) ∈ lw_all := lw_g (lw_at lw_m2 140 rfl) rfl
theorem q460 : (Jvm.Cond.methodLink "WithinWords" (153 : Nat) ({ cls := "java/lang/Math", name := "min", desc := "(II)I" } : Jvm.MethodName)) ∈ lw_all := lw_g (lw_at lw_m2 141 rfl) rfl
theorem q463 : (Jvm.Cond.methodLink "WithinWords" (165 : Nat) ({ cls := "WithinWords", name := "repeats", desc := "(I)V" } : Jvm.MethodName)) ∈ lw_all := lw_g (lw_at lw_m2 144 rfl) rfl
theorem q464 : (Jvm.Cond.privateMethod ({ cls := "WithinWords", name := "repeats", desc := "(I)V" } : Jvm.MethodName)) ∈ lw_tbl := lw_at lw_m2 145 rfl
theorem q465 : (Jvm.Cond.instanceMethod ({ cls := "WithinWords", name := "repeats", desc := "(I)V" } : Jvm.MethodName)) ∈ lw_all := lw_g (lw_at lw_m2 146 rfl) rfl
theorem q466 : (Jvm.Cond.code ({ cls := "WithinWords", name := "repeats", desc := "(I)V" } : Jvm.MethodName) prog_1_method_27_code (6 : Nat) (Option.none : Option Jvm.ClassFile.FieldType)) ∈ lw_all := lw_g (lw_at lw_m2 147 rfl) rfl
theorem q468 : (Jvm.Cond.instanceMethod ({ cls := "WithinWords", name := "tell", desc := "(II)I" } : Jvm.MethodName)) ∈ lw_all := lw_g (lw_at lw_m2 149 rfl) rfl
theorem q469 : (Jvm.Cond.selects "WithinWords" ({ cls := "WithinWords", name := "tell", desc := "(II)I" } : Jvm.MethodName) ({ cls := "WithinWords", name := "tell", desc := "(II)I" } : Jvm.MethodName)) ∈ lw_all := lw_g (lw_at lw_m2 150 rfl) rfl
theorem q470 : (Jvm.Cond.code ({ cls := "WithinWords", name := "tell", desc := "(II)I" } : Jvm.MethodName) prog_1_method_31_code (3 : Nat) (Option.some Jvm.ClassFile.FieldType.int)) ∈ lw_all := lw_g (lw_at lw_m2 151 rfl) rfl
theorem q471 : (Jvm.Cond.classLink "WithinWords" (176 : Nat) "WithinWords$Told") ∈ lw_all := lw_g (lw_at lw_m2 152 rfl) rfl
theorem q473 : (Jvm.Cond.methodLink "WithinWords" (178 : Nat) ({ cls := "WithinWords", name := "cut", desc := "([BII)[B" } : Jvm.MethodName)) ∈ lw_all := lw_g (lw_at lw_m2 154 rfl) rfl
theorem q474 : (Jvm.Cond.static ({ cls := "WithinWords", name := "cut", desc := "([BII)[B" } : Jvm.MethodName)) ∈ lw_all := lw_g (lw_at lw_m2 155 rfl) rfl
theorem q475 : (Jvm.Cond.code ({ cls := "WithinWords", name := "cut", desc := "([BII)[B" } : Jvm.MethodName) prog_1_method_32_code (4 : Nat) (Option.some (Jvm.ClassFile.FieldType.array Jvm.ClassFile.FieldType.byte))) ∈ lw_all := lw_g (lw_at lw_m2 156 rfl) rfl
theorem q476 : (Jvm.Cond.methodLink "WithinWords" (182 : Nat) ({ cls := "WithinWords$Told", name := "<init>", desc := "([BI)V" } : Jvm.MethodName)) ∈ lw_all := lw_g (lw_at lw_m2 157 rfl) rfl
theorem q481 : (Jvm.Cond.fieldLinkNest "WithinWords" (213 : Nat) "WithinWords$Told" "bytes" "I" "WithinWords") ∈ lw_tbl := lw_at lw_m2 162 rfl
theorem q487 : (Jvm.Cond.instanceMethod ({ cls := "WithinWords", name := "join", desc := "(III)I" } : Jvm.MethodName)) ∈ lw_all := lw_g (lw_at lw_m2 168 rfl) rfl
theorem q488 : (Jvm.Cond.selects "WithinWords" ({ cls := "WithinWords", name := "join", desc := "(III)I" } : Jvm.MethodName) ({ cls := "WithinWords", name := "join", desc := "(III)I" } : Jvm.MethodName)) ∈ lw_all := lw_g (lw_at lw_m2 169 rfl) rfl
theorem q489 : (Jvm.Cond.code ({ cls := "WithinWords", name := "join", desc := "(III)I" } : Jvm.MethodName) prog_1_method_33_code (7 : Nat) (Option.some Jvm.ClassFile.FieldType.int)) ∈ lw_all := lw_g (lw_at lw_m2 170 rfl) rfl
theorem q490 : (Jvm.Cond.methodLink "WithinWords" (185 : Nat) ({ cls := "WithinWords", name := "askedTwo", desc := "(II)I" } : Jvm.MethodName)) ∈ lw_all := lw_g (lw_at lw_m2 171 rfl) rfl
theorem q491 : (Jvm.Cond.privateMethod ({ cls := "WithinWords", name := "askedTwo", desc := "(II)I" } : Jvm.MethodName)) ∈ lw_tbl := lw_at lw_m2 172 rfl
theorem q492 : (Jvm.Cond.instanceMethod ({ cls := "WithinWords", name := "askedTwo", desc := "(II)I" } : Jvm.MethodName)) ∈ lw_all := lw_g (lw_at lw_m2 173 rfl) rfl
theorem q493 : (Jvm.Cond.code ({ cls := "WithinWords", name := "askedTwo", desc := "(II)I" } : Jvm.MethodName) prog_1_method_20_code (3 : Nat) (Option.some Jvm.ClassFile.FieldType.int)) ∈ lw_all := lw_g (lw_at lw_m2 174 rfl) rfl
theorem q494 : (Jvm.Cond.methodLink "WithinWords" (188 : Nat) ({ cls := "WithinWords", name := "of", desc := "(I)[B" } : Jvm.MethodName)) ∈ lw_all := lw_g (lw_at lw_m2 175 rfl) rfl
theorem q495 : (Jvm.Cond.privateMethod ({ cls := "WithinWords", name := "of", desc := "(I)[B" } : Jvm.MethodName)) ∈ lw_tbl := lw_at lw_m2 176 rfl
theorem q496 : (Jvm.Cond.instanceMethod ({ cls := "WithinWords", name := "of", desc := "(I)[B" } : Jvm.MethodName)) ∈ lw_all := lw_g (lw_at lw_m2 177 rfl) rfl
theorem q497 : (Jvm.Cond.code ({ cls := "WithinWords", name := "of", desc := "(I)[B" } : Jvm.MethodName) prog_1_method_21_code (2 : Nat) (Option.some (Jvm.ClassFile.FieldType.array Jvm.ClassFile.FieldType.byte))) ∈ lw_all := lw_g (lw_at lw_m2 178 rfl) rfl
theorem q498 : (Jvm.Cond.classLink "WithinWords" (192 : Nat) "WithinWords$Made") ∈ lw_all := lw_g (lw_at lw_m2 179 rfl) rfl
theorem q500 : (Jvm.Cond.methodLink "WithinWords" (194 : Nat) ({ cls := "WithinWords$Made", name := "<init>", desc := "([BI)V" } : Jvm.MethodName)) ∈ lw_all := lw_g (lw_at lw_m2 181 rfl) rfl
theorem q505 : (Jvm.Cond.fieldLinkNest "WithinWords" (216 : Nat) "WithinWords$Made" "from" "I" "WithinWords") ∈ lw_tbl := lw_at lw_m2 186 rfl
theorem q511 : (Jvm.Cond.instanceMethod ({ cls := "WithinWords", name := "part", desc := "(IIII)I" } : Jvm.MethodName)) ∈ lw_all := lw_g (lw_at lw_m2 192 rfl) rfl
theorem q512 : (Jvm.Cond.selects "WithinWords" ({ cls := "WithinWords", name := "part", desc := "(IIII)I" } : Jvm.MethodName) ({ cls := "WithinWords", name := "part", desc := "(IIII)I" } : Jvm.MethodName)) ∈ lw_all := lw_g (lw_at lw_m2 193 rfl) rfl
theorem q513 : (Jvm.Cond.code ({ cls := "WithinWords", name := "part", desc := "(IIII)I" } : Jvm.MethodName) prog_1_method_34_code (5 : Nat) (Option.some Jvm.ClassFile.FieldType.int)) ∈ lw_all := lw_g (lw_at lw_m2 194 rfl) rfl
theorem q515 : (Jvm.Cond.instanceMethod ({ cls := "WithinWords", name := "turn", desc := "(III)I" } : Jvm.MethodName)) ∈ lw_all := lw_g (lw_at lw_m2 196 rfl) rfl
theorem q516 : (Jvm.Cond.selects "WithinWords" ({ cls := "WithinWords", name := "turn", desc := "(III)I" } : Jvm.MethodName) ({ cls := "WithinWords", name := "turn", desc := "(III)I" } : Jvm.MethodName)) ∈ lw_all := lw_g (lw_at lw_m2 197 rfl) rfl
theorem q517 : (Jvm.Cond.code ({ cls := "WithinWords", name := "turn", desc := "(III)I" } : Jvm.MethodName) prog_1_method_35_code (8 : Nat) (Option.some Jvm.ClassFile.FieldType.int)) ∈ lw_all := lw_g (lw_at lw_m2 198 rfl) rfl
theorem q518 : (Jvm.Cond.methodLink "WithinWords" (195 : Nat) ({ cls := "WithinWords", name := "askedWord", desc := "(I)I" } : Jvm.MethodName)) ∈ lw_all := lw_g (lw_at lw_m2 199 rfl) rfl
theorem q519 : (Jvm.Cond.privateMethod ({ cls := "WithinWords", name := "askedWord", desc := "(I)I" } : Jvm.MethodName)) ∈ lw_tbl := lw_at lw_m2 200 rfl
theorem q520 : (Jvm.Cond.instanceMethod ({ cls := "WithinWords", name := "askedWord", desc := "(I)I" } : Jvm.MethodName)) ∈ lw_all := lw_g (lw_at lw_m2 201 rfl) rfl
theorem q521 : (Jvm.Cond.code ({ cls := "WithinWords", name := "askedWord", desc := "(I)I" } : Jvm.MethodName) prog_1_method_19_code (2 : Nat) (Option.some Jvm.ClassFile.FieldType.int)) ∈ lw_all := lw_g (lw_at lw_m2 202 rfl) rfl
theorem q522 : (Jvm.Cond.classLink "WithinWords" (198 : Nat) "WithinWords$Turned") ∈ lw_all := lw_g (lw_at lw_m2 203 rfl) rfl
theorem q524 : (Jvm.Cond.methodLink "WithinWords" (200 : Nat) ({ cls := "WithinWords$Turned", name := "<init>", desc := "([BII)V" } : Jvm.MethodName)) ∈ lw_all := lw_g (lw_at lw_m2 205 rfl) rfl
theorem q529 : (Jvm.Cond.fieldLinkNest "WithinWords" (219 : Nat) "WithinWords$Turned" "how" "I" "WithinWords") ∈ lw_tbl := lw_at lw_m2 210 rfl
theorem q536 : (Jvm.Cond.instanceMethod ({ cls := "WithinWords", name := "drop", desc := "(III)I" } : Jvm.MethodName)) ∈ lw_all := lw_g (lw_at lw_m2 217 rfl) rfl
theorem q537 : (Jvm.Cond.selects "WithinWords" ({ cls := "WithinWords", name := "drop", desc := "(III)I" } : Jvm.MethodName) ({ cls := "WithinWords", name := "drop", desc := "(III)I" } : Jvm.MethodName)) ∈ lw_all := lw_g (lw_at lw_m2 218 rfl) rfl
theorem q538 : (Jvm.Cond.code ({ cls := "WithinWords", name := "drop", desc := "(III)I" } : Jvm.MethodName) prog_1_method_36_code (8 : Nat) (Option.some Jvm.ClassFile.FieldType.int)) ∈ lw_all := lw_g (lw_at lw_m2 219 rfl) rfl
theorem q539 : (Jvm.Cond.methodLink "WithinWords" (203 : Nat) ({ cls := "WithinWords", name := "parted", desc := "([B[B)I" } : Jvm.MethodName)) ∈ lw_all := lw_g (lw_at lw_m2 220 rfl) rfl
theorem q540 : (Jvm.Cond.privateMethod ({ cls := "WithinWords", name := "parted", desc := "([B[B)I" } : Jvm.MethodName)) ∈ lw_tbl := lw_at lw_m2 221 rfl
theorem q541 : (Jvm.Cond.instanceMethod ({ cls := "WithinWords", name := "parted", desc := "([B[B)I" } : Jvm.MethodName)) ∈ lw_all := lw_g (lw_at lw_m2 222 rfl) rfl
theorem q542 : (Jvm.Cond.code ({ cls := "WithinWords", name := "parted", desc := "([B[B)I" } : Jvm.MethodName) prog_1_method_59_code (10 : Nat) (Option.some Jvm.ClassFile.FieldType.int)) ∈ lw_all := lw_g (lw_at lw_m2 223 rfl) rfl
theorem q543 : (Jvm.Cond.methodLink "WithinWords" (249 : Nat) ({ cls := "WithinWords", name := "setNext", desc := "([B[I)V" } : Jvm.MethodName)) ∈ lw_all := lw_g (lw_at lw_m2 224 rfl) rfl
theorem q544 : (Jvm.Cond.static ({ cls := "WithinWords", name := "setNext", desc := "([B[I)V" } : Jvm.MethodName)) ∈ lw_all := lw_g (lw_at lw_m2 225 rfl) rfl
theorem q545 : (Jvm.Cond.code ({ cls := "WithinWords", name := "setNext", desc := "([B[I)V" } : Jvm.MethodName) prog_1_method_42_code (5 : Nat) (Option.none : Option Jvm.ClassFile.FieldType)) ∈ lw_all := lw_g (lw_at lw_m2 226 rfl) rfl
theorem q546 : (Jvm.Cond.methodLink "WithinWords" (278 : Nat) ({ cls := "WithinWords", name := "lengthTo", desc := "(I)I" } : Jvm.MethodName)) ∈ lw_all := lw_g (lw_at lw_m2 227 rfl) rfl
theorem q547 : (Jvm.Cond.privateMethod ({ cls := "WithinWords", name := "lengthTo", desc := "(I)I" } : Jvm.MethodName)) ∈ lw_tbl := lw_at lw_m2 228 rfl
theorem q548 : (Jvm.Cond.instanceMethod ({ cls := "WithinWords", name := "lengthTo", desc := "(I)I" } : Jvm.MethodName)) ∈ lw_all := lw_g (lw_at lw_m2 229 rfl) rfl
theorem q549 : (Jvm.Cond.code ({ cls := "WithinWords", name := "lengthTo", desc := "(I)I" } : Jvm.MethodName) prog_1_method_60_code (4 : Nat) (Option.some Jvm.ClassFile.FieldType.int)) ∈ lw_all := lw_g (lw_at lw_m2 230 rfl) rfl
theorem q550 : (Jvm.Cond.classLink "WithinWords" (207 : Nat) "WithinWords$Dropped") ∈ lw_all := lw_g (lw_at lw_m2 231 rfl) rfl
theorem q552 : (Jvm.Cond.methodLink "WithinWords" (209 : Nat) ({ cls := "WithinWords$Dropped", name := "<init>", desc := "([BII)V" } : Jvm.MethodName)) ∈ lw_all := lw_g (lw_at lw_m2 233 rfl) rfl
theorem q557 : (Jvm.Cond.fieldLinkNest "WithinWords" (222 : Nat) "WithinWords$Dropped" "depth" "I" "WithinWords") ∈ lw_tbl := lw_at lw_m2 238 rfl
theorem q564 : (Jvm.Cond.instanceMethod ({ cls := "WithinWords", name := "erase", desc := "(I)I" } : Jvm.MethodName)) ∈ lw_all := lw_g (lw_at lw_m3 5 rfl) rfl
theorem q565 : (Jvm.Cond.selects "WithinWords" ({ cls := "WithinWords", name := "erase", desc := "(I)I" } : Jvm.MethodName) ({ cls := "WithinWords", name := "erase", desc := "(I)I" } : Jvm.MethodName)) ∈ lw_all := lw_g (lw_at lw_m3 6 rfl) rfl
theorem q566 : (Jvm.Cond.code ({ cls := "WithinWords", name := "erase", desc := "(I)I" } : Jvm.MethodName) prog_1_method_37_code (3 : Nat) (Option.some Jvm.ClassFile.FieldType.int)) ∈ lw_all := lw_g (lw_at lw_m3 7 rfl) rfl
theorem q568 : (Jvm.Cond.instanceMethod ({ cls := "WithinWords", name := "size", desc := "(I)I" } : Jvm.MethodName)) ∈ lw_all := lw_g (lw_at lw_m3 9 rfl) rfl
theorem q569 : (Jvm.Cond.selects "WithinWords" ({ cls := "WithinWords", name := "size", desc := "(I)I" } : Jvm.MethodName) ({ cls := "WithinWords", name := "size", desc := "(I)I" } : Jvm.MethodName)) ∈ lw_all := lw_g (lw_at lw_m3 10 rfl) rfl
theorem q570 : (Jvm.Cond.code ({ cls := "WithinWords", name := "size", desc := "(I)I" } : Jvm.MethodName) prog_1_method_38_code (3 : Nat) (Option.some Jvm.ClassFile.FieldType.int)) ∈ lw_all := lw_g (lw_at lw_m3 11 rfl) rfl
theorem q572 : (Jvm.Cond.instanceMethod ({ cls := "WithinWords", name := "letter", desc := "(II)I" } : Jvm.MethodName)) ∈ lw_all := lw_g (lw_at lw_m3 13 rfl) rfl
theorem q573 : (Jvm.Cond.selects "WithinWords" ({ cls := "WithinWords", name := "letter", desc := "(II)I" } : Jvm.MethodName) ({ cls := "WithinWords", name := "letter", desc := "(II)I" } : Jvm.MethodName)) ∈ lw_all := lw_g (lw_at lw_m3 14 rfl) rfl
theorem q574 : (Jvm.Cond.code ({ cls := "WithinWords", name := "letter", desc := "(II)I" } : Jvm.MethodName) prog_1_method_39_code (4 : Nat) (Option.some Jvm.ClassFile.FieldType.int)) ∈ lw_all := lw_g (lw_at lw_m3 15 rfl) rfl
theorem q576 : (Jvm.Cond.instanceMethod ({ cls := "WithinWords", name := "kind", desc := "(I)I" } : Jvm.MethodName)) ∈ lw_all := lw_g (lw_at lw_m3 17 rfl) rfl
theorem q577 : (Jvm.Cond.selects "WithinWords" ({ cls := "WithinWords", name := "kind", desc := "(I)I" } : Jvm.MethodName) ({ cls := "WithinWords", name := "kind", desc := "(I)I" } : Jvm.MethodName)) ∈ lw_all := lw_g (lw_at lw_m3 18 rfl) rfl
theorem q578 : (Jvm.Cond.code ({ cls := "WithinWords", name := "kind", desc := "(I)I" } : Jvm.MethodName) prog_1_method_40_code (3 : Nat) (Option.some Jvm.ClassFile.FieldType.int)) ∈ lw_all := lw_g (lw_at lw_m3 19 rfl) rfl
theorem q579 : (Jvm.Cond.methodLink "WithinWords" (210 : Nat) ({ cls := "WithinWords$Word", name := "kind", desc := "()I" } : Jvm.MethodName)) ∈ lw_all := lw_g (lw_at lw_m3 20 rfl) rfl
theorem q597 : (Jvm.Cond.instanceMethod ({ cls := "WithinWords", name := "mark", desc := "(II)I" } : Jvm.MethodName)) ∈ lw_all := lw_g (lw_at lw_m3 38 rfl) rfl
theorem q598 : (Jvm.Cond.selects "WithinWords" ({ cls := "WithinWords", name := "mark", desc := "(II)I" } : Jvm.MethodName) ({ cls := "WithinWords", name := "mark", desc := "(II)I" } : Jvm.MethodName)) ∈ lw_all := lw_g (lw_at lw_m3 39 rfl) rfl
theorem q599 : (Jvm.Cond.codeWith ({ cls := "WithinWords", name := "mark", desc := "(II)I" } : Jvm.MethodName) prog_1_method_41_code (6 : Nat) (Option.some Jvm.ClassFile.FieldType.int) [((38 : Nat), (72 : Nat), (100 : Nat), (225 : Nat)), ((73 : Nat), (81 : Nat), (100 : Nat), (225 : Nat)), ((82 : Nat), (90 : Nat), (100 : Nat), (225 : Nat)), ((91 : Nat), (99 : Nat), (100 : Nat), (225 : Nat))]) ∈ lw_all := lw_g (lw_at lw_m3 40 rfl) rfl
theorem q600 : (Jvm.Cond.classLink "WithinWords" (225 : Nat) "java/lang/ClassCastException") ∈ lw_all := lw_g (lw_at lw_m3 41 rfl) rfl
theorem q615 : (Jvm.Cond.instanceMethod ({ cls := "WithinWords", name := "ways", desc := "(II)I" } : Jvm.MethodName)) ∈ lw_all := lw_g (lw_at lw_m3 56 rfl) rfl
theorem q616 : (Jvm.Cond.selects "WithinWords" ({ cls := "WithinWords", name := "ways", desc := "(II)I" } : Jvm.MethodName) ({ cls := "WithinWords", name := "ways", desc := "(II)I" } : Jvm.MethodName)) ∈ lw_all := lw_g (lw_at lw_m3 57 rfl) rfl
theorem q617 : (Jvm.Cond.code ({ cls := "WithinWords", name := "ways", desc := "(II)I" } : Jvm.MethodName) prog_1_method_44_code (6 : Nat) (Option.some Jvm.ClassFile.FieldType.int)) ∈ lw_all := lw_g (lw_at lw_m3 58 rfl) rfl
theorem q618 : (Jvm.Cond.methodLink "WithinWords" (227 : Nat) ({ cls := "WithinWords", name := "waysOf", desc := "([B[B)J" } : Jvm.MethodName)) ∈ lw_all := lw_g (lw_at lw_m3 59 rfl) rfl
theorem q619 : (Jvm.Cond.static ({ cls := "WithinWords", name := "waysOf", desc := "([B[B)J" } : Jvm.MethodName)) ∈ lw_all := lw_g (lw_at lw_m3 60 rfl) rfl
theorem q620 : (Jvm.Cond.code ({ cls := "WithinWords", name := "waysOf", desc := "([B[B)J" } : Jvm.MethodName) prog_1_method_43_code (9 : Nat) (Option.some Jvm.ClassFile.FieldType.long)) ∈ lw_all := lw_g (lw_at lw_m3 61 rfl) rfl
theorem q621 : (Jvm.Cond.methodLink "WithinWords" (231 : Nat) ({ cls := "WithinWords", name := "tellMany", desc := "(JI)I" } : Jvm.MethodName)) ∈ lw_all := lw_g (lw_at lw_m3 62 rfl) rfl
theorem q622 : (Jvm.Cond.privateMethod ({ cls := "WithinWords", name := "tellMany", desc := "(JI)I" } : Jvm.MethodName)) ∈ lw_tbl := lw_at lw_m3 63 rfl
theorem q623 : (Jvm.Cond.instanceMethod ({ cls := "WithinWords", name := "tellMany", desc := "(JI)I" } : Jvm.MethodName)) ∈ lw_all := lw_g (lw_at lw_m3 64 rfl) rfl
theorem q624 : (Jvm.Cond.code ({ cls := "WithinWords", name := "tellMany", desc := "(JI)I" } : Jvm.MethodName) prog_1_method_4_code (4 : Nat) (Option.some Jvm.ClassFile.FieldType.int)) ∈ lw_all := lw_g (lw_at lw_m3 65 rfl) rfl
theorem q626 : (Jvm.Cond.instanceMethod ({ cls := "WithinWords", name := "way", desc := "(IIIZ)I" } : Jvm.MethodName)) ∈ lw_all := lw_g (lw_at lw_m3 67 rfl) rfl
theorem q627 : (Jvm.Cond.selects "WithinWords" ({ cls := "WithinWords", name := "way", desc := "(IIIZ)I" } : Jvm.MethodName) ({ cls := "WithinWords", name := "way", desc := "(IIIZ)I" } : Jvm.MethodName)) ∈ lw_all := lw_g (lw_at lw_m3 68 rfl) rfl
theorem q628 : (Jvm.Cond.code ({ cls := "WithinWords", name := "way", desc := "(IIIZ)I" } : Jvm.MethodName) prog_1_method_46_code (6 : Nat) (Option.some Jvm.ClassFile.FieldType.int)) ∈ lw_all := lw_g (lw_at lw_m3 69 rfl) rfl
theorem q629 : (Jvm.Cond.methodLink "WithinWords" (235 : Nat) ({ cls := "WithinWords", name := "setWays", desc := "([B[B)Z" } : Jvm.MethodName)) ∈ lw_all := lw_g (lw_at lw_m3 70 rfl) rfl
theorem q630 : (Jvm.Cond.privateMethod ({ cls := "WithinWords", name := "setWays", desc := "([B[B)Z" } : Jvm.MethodName)) ∈ lw_tbl := lw_at lw_m3 71 rfl
theorem q631 : (Jvm.Cond.instanceMethod ({ cls := "WithinWords", name := "setWays", desc := "([B[B)Z" } : Jvm.MethodName)) ∈ lw_all := lw_g (lw_at lw_m3 72 rfl) rfl
theorem q632 : (Jvm.Cond.code ({ cls := "WithinWords", name := "setWays", desc := "([B[B)Z" } : Jvm.MethodName) prog_1_method_45_code (5 : Nat) (Option.some Jvm.ClassFile.FieldType.boolean)) ∈ lw_all := lw_g (lw_at lw_m3 73 rfl) rfl
theorem q633 : (Jvm.Cond.methodLink "WithinWords" (239 : Nat) ({ cls := "WithinWords", name := "come", desc := "(I[II)V" } : Jvm.MethodName)) ∈ lw_all := lw_g (lw_at lw_m3 74 rfl) rfl
theorem q634 : (Jvm.Cond.privateMethod ({ cls := "WithinWords", name := "come", desc := "(I[II)V" } : Jvm.MethodName)) ∈ lw_tbl := lw_at lw_m3 75 rfl
theorem q635 : (Jvm.Cond.instanceMethod ({ cls := "WithinWords", name := "come", desc := "(I[II)V" } : Jvm.MethodName)) ∈ lw_all := lw_g (lw_at lw_m3 76 rfl) rfl
theorem q636 : (Jvm.Cond.code ({ cls := "WithinWords", name := "come", desc := "(I[II)V" } : Jvm.MethodName) prog_1_method_17_code (4 : Nat) (Option.none : Option Jvm.ClassFile.FieldType)) ∈ lw_all := lw_g (lw_at lw_m3 77 rfl) rfl
theorem q638 : (Jvm.Cond.instanceMethod ({ cls := "WithinWords", name := "places", desc := "(IIZ)I" } : Jvm.MethodName)) ∈ lw_all := lw_g (lw_at lw_m3 79 rfl) rfl
theorem q639 : (Jvm.Cond.selects "WithinWords" ({ cls := "WithinWords", name := "places", desc := "(IIZ)I" } : Jvm.MethodName) ({ cls := "WithinWords", name := "places", desc := "(IIZ)I" } : Jvm.MethodName)) ∈ lw_all := lw_g (lw_at lw_m3 80 rfl) rfl
theorem q640 : (Jvm.Cond.code ({ cls := "WithinWords", name := "places", desc := "(IIZ)I" } : Jvm.MethodName) prog_1_method_47_code (10 : Nat) (Option.some Jvm.ClassFile.FieldType.int)) ∈ lw_all := lw_g (lw_at lw_m3 81 rfl) rfl
theorem q641 : (Jvm.Cond.methodLink "WithinWords" (243 : Nat) ({ cls := "java/lang/Long", name := "bitCount", desc := "(J)I" } : Jvm.MethodName)) ∈ lw_all := lw_g (lw_at lw_m3 82 rfl) rfl
theorem q648 : (Jvm.Cond.instanceMethod ({ cls := "WithinWords", name := "judge", desc := "(III)I" } : Jvm.MethodName)) ∈ lw_all := lw_g (lw_at lw_m3 89 rfl) rfl
theorem q649 : (Jvm.Cond.selects "WithinWords" ({ cls := "WithinWords", name := "judge", desc := "(III)I" } : Jvm.MethodName) ({ cls := "WithinWords", name := "judge", desc := "(III)I" } : Jvm.MethodName)) ∈ lw_all := lw_g (lw_at lw_m3 90 rfl) rfl
theorem q650 : (Jvm.Cond.code ({ cls := "WithinWords", name := "judge", desc := "(III)I" } : Jvm.MethodName) prog_1_method_48_code (9 : Nat) (Option.some Jvm.ClassFile.FieldType.int)) ∈ lw_all := lw_g (lw_at lw_m3 91 rfl) rfl
theorem q652 : (Jvm.Cond.instanceMethod ({ cls := "WithinWords", name := "bar", desc := "(II)I" } : Jvm.MethodName)) ∈ lw_all := lw_g (lw_at lw_m3 93 rfl) rfl
theorem q653 : (Jvm.Cond.selects "WithinWords" ({ cls := "WithinWords", name := "bar", desc := "(II)I" } : Jvm.MethodName) ({ cls := "WithinWords", name := "bar", desc := "(II)I" } : Jvm.MethodName)) ∈ lw_all := lw_g (lw_at lw_m3 94 rfl) rfl
theorem q654 : (Jvm.Cond.code ({ cls := "WithinWords", name := "bar", desc := "(II)I" } : Jvm.MethodName) prog_1_method_49_code (11 : Nat) (Option.some Jvm.ClassFile.FieldType.int)) ∈ lw_all := lw_g (lw_at lw_m3 95 rfl) rfl
theorem q656 : (Jvm.Cond.instanceMethod ({ cls := "WithinWords", name := "inner", desc := "(II)I" } : Jvm.MethodName)) ∈ lw_all := lw_g (lw_at lw_m3 97 rfl) rfl
theorem q657 : (Jvm.Cond.selects "WithinWords" ({ cls := "WithinWords", name := "inner", desc := "(II)I" } : Jvm.MethodName) ({ cls := "WithinWords", name := "inner", desc := "(II)I" } : Jvm.MethodName)) ∈ lw_all := lw_g (lw_at lw_m3 98 rfl) rfl
theorem q658 : (Jvm.Cond.code ({ cls := "WithinWords", name := "inner", desc := "(II)I" } : Jvm.MethodName) prog_1_method_51_code (7 : Nat) (Option.some Jvm.ClassFile.FieldType.int)) ∈ lw_all := lw_g (lw_at lw_m3 99 rfl) rfl
theorem q659 : (Jvm.Cond.methodLink "WithinWords" (253 : Nat) ({ cls := "WithinWords", name := "setCounts", desc := "([B)V" } : Jvm.MethodName)) ∈ lw_all := lw_g (lw_at lw_m3 100 rfl) rfl
theorem q660 : (Jvm.Cond.privateMethod ({ cls := "WithinWords", name := "setCounts", desc := "([B)V" } : Jvm.MethodName)) ∈ lw_tbl := lw_at lw_m3 101 rfl
theorem q661 : (Jvm.Cond.instanceMethod ({ cls := "WithinWords", name := "setCounts", desc := "([B)V" } : Jvm.MethodName)) ∈ lw_all := lw_g (lw_at lw_m3 102 rfl) rfl
theorem q662 : (Jvm.Cond.code ({ cls := "WithinWords", name := "setCounts", desc := "([B)V" } : Jvm.MethodName) prog_1_method_50_code (8 : Nat) (Option.none : Option Jvm.ClassFile.FieldType)) ∈ lw_all := lw_g (lw_at lw_m3 103 rfl) rfl
theorem q664 : (Jvm.Cond.instanceMethod ({ cls := "WithinWords", name := "rank", desc := "(II)I" } : Jvm.MethodName)) ∈ lw_all := lw_g (lw_at lw_m3 105 rfl) rfl
theorem q665 : (Jvm.Cond.selects "WithinWords" ({ cls := "WithinWords", name := "rank", desc := "(II)I" } : Jvm.MethodName) ({ cls := "WithinWords", name := "rank", desc := "(II)I" } : Jvm.MethodName)) ∈ lw_all := lw_g (lw_at lw_m3 106 rfl) rfl
theorem q666 : (Jvm.Cond.code ({ cls := "WithinWords", name := "rank", desc := "(II)I" } : Jvm.MethodName) prog_1_method_52_code (11 : Nat) (Option.some Jvm.ClassFile.FieldType.int)) ∈ lw_all := lw_g (lw_at lw_m3 107 rfl) rfl
theorem q668 : (Jvm.Cond.instanceMethod ({ cls := "WithinWords", name := "byRank", desc := "(IIII)I" } : Jvm.MethodName)) ∈ lw_all := lw_g (lw_at lw_m3 109 rfl) rfl
theorem q669 : (Jvm.Cond.selects "WithinWords" ({ cls := "WithinWords", name := "byRank", desc := "(IIII)I" } : Jvm.MethodName) ({ cls := "WithinWords", name := "byRank", desc := "(IIII)I" } : Jvm.MethodName)) ∈ lw_all := lw_g (lw_at lw_m3 110 rfl) rfl
theorem q670 : (Jvm.Cond.code ({ cls := "WithinWords", name := "byRank", desc := "(IIII)I" } : Jvm.MethodName) prog_1_method_53_code (14 : Nat) (Option.some Jvm.ClassFile.FieldType.int)) ∈ lw_all := lw_g (lw_at lw_m3 111 rfl) rfl
theorem q671 : (Jvm.Cond.methodLink "WithinWords" (256 : Nat) ({ cls := "WithinWords", name := "from", desc := "(III)J" } : Jvm.MethodName)) ∈ lw_all := lw_g (lw_at lw_m3 112 rfl) rfl
theorem q672 : (Jvm.Cond.privateMethod ({ cls := "WithinWords", name := "from", desc := "(III)J" } : Jvm.MethodName)) ∈ lw_tbl := lw_at lw_m3 113 rfl
theorem q673 : (Jvm.Cond.instanceMethod ({ cls := "WithinWords", name := "from", desc := "(III)J" } : Jvm.MethodName)) ∈ lw_all := lw_g (lw_at lw_m3 114 rfl) rfl
theorem q674 : (Jvm.Cond.code ({ cls := "WithinWords", name := "from", desc := "(III)J" } : Jvm.MethodName) prog_1_method_54_code (5 : Nat) (Option.some Jvm.ClassFile.FieldType.long)) ∈ lw_all := lw_g (lw_at lw_m3 115 rfl) rfl
theorem q676 : (Jvm.Cond.instanceMethod ({ cls := "WithinWords", name := "arches", desc := "(I)I" } : Jvm.MethodName)) ∈ lw_all := lw_g (lw_at lw_m3 117 rfl) rfl
theorem q677 : (Jvm.Cond.selects "WithinWords" ({ cls := "WithinWords", name := "arches", desc := "(I)I" } : Jvm.MethodName) ({ cls := "WithinWords", name := "arches", desc := "(I)I" } : Jvm.MethodName)) ∈ lw_all := lw_g (lw_at lw_m3 118 rfl) rfl
theorem q678 : (Jvm.Cond.code ({ cls := "WithinWords", name := "arches", desc := "(I)I" } : Jvm.MethodName) prog_1_method_56_code (3 : Nat) (Option.some Jvm.ClassFile.FieldType.int)) ∈ lw_all := lw_g (lw_at lw_m3 119 rfl) rfl
theorem q679 : (Jvm.Cond.methodLink "WithinWords" (265 : Nat) ({ cls := "WithinWords", name := "setArches", desc := "([B)V" } : Jvm.MethodName)) ∈ lw_all := lw_g (lw_at lw_m3 120 rfl) rfl
theorem q680 : (Jvm.Cond.privateMethod ({ cls := "WithinWords", name := "setArches", desc := "([B)V" } : Jvm.MethodName)) ∈ lw_tbl := lw_at lw_m3 121 rfl
theorem q681 : (Jvm.Cond.instanceMethod ({ cls := "WithinWords", name := "setArches", desc := "([B)V" } : Jvm.MethodName)) ∈ lw_all := lw_g (lw_at lw_m3 122 rfl) rfl
theorem q682 : (Jvm.Cond.code ({ cls := "WithinWords", name := "setArches", desc := "([B)V" } : Jvm.MethodName) prog_1_method_55_code (4 : Nat) (Option.none : Option Jvm.ClassFile.FieldType)) ∈ lw_all := lw_g (lw_at lw_m3 123 rfl) rfl
theorem q684 : (Jvm.Cond.instanceMethod ({ cls := "WithinWords", name := "absent", desc := "(II)I" } : Jvm.MethodName)) ∈ lw_all := lw_g (lw_at lw_m3 125 rfl) rfl
theorem q685 : (Jvm.Cond.selects "WithinWords" ({ cls := "WithinWords", name := "absent", desc := "(II)I" } : Jvm.MethodName) ({ cls := "WithinWords", name := "absent", desc := "(II)I" } : Jvm.MethodName)) ∈ lw_all := lw_g (lw_at lw_m3 126 rfl) rfl
theorem q686 : (Jvm.Cond.code ({ cls := "WithinWords", name := "absent", desc := "(II)I" } : Jvm.MethodName) prog_1_method_57_code (14 : Nat) (Option.some Jvm.ClassFile.FieldType.int)) ∈ lw_all := lw_g (lw_at lw_m3 127 rfl) rfl
theorem q688 : (Jvm.Cond.instanceMethod ({ cls := "WithinWords", name := "added", desc := "(II)I" } : Jvm.MethodName)) ∈ lw_all := lw_g (lw_at lw_m3 129 rfl) rfl
theorem q689 : (Jvm.Cond.selects "WithinWords" ({ cls := "WithinWords", name := "added", desc := "(II)I" } : Jvm.MethodName) ({ cls := "WithinWords", name := "added", desc := "(II)I" } : Jvm.MethodName)) ∈ lw_all := lw_g (lw_at lw_m3 130 rfl) rfl
theorem q690 : (Jvm.Cond.code ({ cls := "WithinWords", name := "added", desc := "(II)I" } : Jvm.MethodName) prog_1_method_58_code (6 : Nat) (Option.some Jvm.ClassFile.FieldType.int)) ∈ lw_all := lw_g (lw_at lw_m3 131 rfl) rfl
theorem q691 : (Jvm.Cond.methodLink "WithinWords" (268 : Nat) ({ cls := "java/lang/Integer", name := "bitCount", desc := "(I)I" } : Jvm.MethodName)) ∈ lw_all := lw_g (lw_at lw_m3 132 rfl) rfl
theorem q698 : (Jvm.Cond.instanceMethod ({ cls := "WithinWords", name := "alike", desc := "(III)I" } : Jvm.MethodName)) ∈ lw_all := lw_g (lw_at lw_m3 139 rfl) rfl
theorem q699 : (Jvm.Cond.selects "WithinWords" ({ cls := "WithinWords", name := "alike", desc := "(III)I" } : Jvm.MethodName) ({ cls := "WithinWords", name := "alike", desc := "(III)I" } : Jvm.MethodName)) ∈ lw_all := lw_g (lw_at lw_m3 140 rfl) rfl
theorem q700 : (Jvm.Cond.code ({ cls := "WithinWords", name := "alike", desc := "(III)I" } : Jvm.MethodName) prog_1_method_61_code (5 : Nat) (Option.some Jvm.ClassFile.FieldType.int)) ∈ lw_all := lw_g (lw_at lw_m3 141 rfl) rfl
theorem q702 : (Jvm.Cond.instanceMethod ({ cls := "WithinWords", name := "parting", desc := "(III)I" } : Jvm.MethodName)) ∈ lw_all := lw_g (lw_at lw_m3 143 rfl) rfl
theorem q703 : (Jvm.Cond.selects "WithinWords" ({ cls := "WithinWords", name := "parting", desc := "(III)I" } : Jvm.MethodName) ({ cls := "WithinWords", name := "parting", desc := "(III)I" } : Jvm.MethodName)) ∈ lw_all := lw_g (lw_at lw_m3 144 rfl) rfl
theorem q704 : (Jvm.Cond.code ({ cls := "WithinWords", name := "parting", desc := "(III)I" } : Jvm.MethodName) prog_1_method_62_code (9 : Nat) (Option.some Jvm.ClassFile.FieldType.int)) ∈ lw_all := lw_g (lw_at lw_m3 145 rfl) rfl
theorem q706 : (Jvm.Cond.instanceMethod ({ cls := "WithinWords", name := "common", desc := "(II)I" } : Jvm.MethodName)) ∈ lw_all := lw_g (lw_at lw_m3 147 rfl) rfl
theorem q707 : (Jvm.Cond.selects "WithinWords" ({ cls := "WithinWords", name := "common", desc := "(II)I" } : Jvm.MethodName) ({ cls := "WithinWords", name := "common", desc := "(II)I" } : Jvm.MethodName)) ∈ lw_all := lw_g (lw_at lw_m3 148 rfl) rfl
theorem q708 : (Jvm.Cond.code ({ cls := "WithinWords", name := "common", desc := "(II)I" } : Jvm.MethodName) prog_1_method_67_code (7 : Nat) (Option.some Jvm.ClassFile.FieldType.int)) ∈ lw_all := lw_g (lw_at lw_m3 149 rfl) rfl
theorem q709 : (Jvm.Cond.methodLink "WithinWords" (287 : Nat) ({ cls := "WithinWords", name := "askedSome", desc := "(I)I" } : Jvm.MethodName)) ∈ lw_all := lw_g (lw_at lw_m3 150 rfl) rfl
theorem q710 : (Jvm.Cond.privateMethod ({ cls := "WithinWords", name := "askedSome", desc := "(I)I" } : Jvm.MethodName)) ∈ lw_tbl := lw_at lw_m3 151 rfl
theorem q711 : (Jvm.Cond.instanceMethod ({ cls := "WithinWords", name := "askedSome", desc := "(I)I" } : Jvm.MethodName)) ∈ lw_all := lw_g (lw_at lw_m3 152 rfl) rfl
theorem q712 : (Jvm.Cond.code ({ cls := "WithinWords", name := "askedSome", desc := "(I)I" } : Jvm.MethodName) prog_1_method_63_code (5 : Nat) (Option.some Jvm.ClassFile.FieldType.int)) ∈ lw_all := lw_g (lw_at lw_m3 153 rfl) rfl
theorem q713 : (Jvm.Cond.methodLink "WithinWords" (290 : Nat) ({ cls := "WithinWords", name := "allGo", desc := "(II)I" } : Jvm.MethodName)) ∈ lw_all := lw_g (lw_at lw_m3 154 rfl) rfl
theorem q714 : (Jvm.Cond.privateMethod ({ cls := "WithinWords", name := "allGo", desc := "(II)I" } : Jvm.MethodName)) ∈ lw_tbl := lw_at lw_m3 155 rfl
theorem q715 : (Jvm.Cond.instanceMethod ({ cls := "WithinWords", name := "allGo", desc := "(II)I" } : Jvm.MethodName)) ∈ lw_all := lw_g (lw_at lw_m3 156 rfl) rfl
theorem q716 : (Jvm.Cond.code ({ cls := "WithinWords", name := "allGo", desc := "(II)I" } : Jvm.MethodName) prog_1_method_65_code (6 : Nat) (Option.some Jvm.ClassFile.FieldType.int)) ∈ lw_all := lw_g (lw_at lw_m3 157 rfl) rfl
theorem q717 : (Jvm.Cond.methodLink "WithinWords" (284 : Nat) ({ cls := "WithinWords", name := "placeIn", desc := "(II)I" } : Jvm.MethodName)) ∈ lw_all := lw_g (lw_at lw_m3 158 rfl) rfl
theorem q718 : (Jvm.Cond.privateMethod ({ cls := "WithinWords", name := "placeIn", desc := "(II)I" } : Jvm.MethodName)) ∈ lw_tbl := lw_at lw_m3 159 rfl
theorem q719 : (Jvm.Cond.instanceMethod ({ cls := "WithinWords", name := "placeIn", desc := "(II)I" } : Jvm.MethodName)) ∈ lw_all := lw_g (lw_at lw_m3 160 rfl) rfl
theorem q720 : (Jvm.Cond.code ({ cls := "WithinWords", name := "placeIn", desc := "(II)I" } : Jvm.MethodName) prog_1_method_64_code (3 : Nat) (Option.some Jvm.ClassFile.FieldType.int)) ∈ lw_all := lw_g (lw_at lw_m3 161 rfl) rfl
theorem q722 : (Jvm.Cond.instanceMethod ({ cls := "WithinWords", name := "cover", desc := "(II)I" } : Jvm.MethodName)) ∈ lw_all := lw_g (lw_at lw_m3 163 rfl) rfl
theorem q723 : (Jvm.Cond.selects "WithinWords" ({ cls := "WithinWords", name := "cover", desc := "(II)I" } : Jvm.MethodName) ({ cls := "WithinWords", name := "cover", desc := "(II)I" } : Jvm.MethodName)) ∈ lw_all := lw_g (lw_at lw_m3 164 rfl) rfl
theorem q724 : (Jvm.Cond.code ({ cls := "WithinWords", name := "cover", desc := "(II)I" } : Jvm.MethodName) prog_1_method_68_code (8 : Nat) (Option.some Jvm.ClassFile.FieldType.int)) ∈ lw_all := lw_g (lw_at lw_m3 165 rfl) rfl
theorem q725 : (Jvm.Cond.methodLink "WithinWords" (293 : Nat) ({ cls := "WithinWords", name := "someGo", desc := "(II)I" } : Jvm.MethodName)) ∈ lw_all := lw_g (lw_at lw_m3 166 rfl) rfl
theorem q726 : (Jvm.Cond.privateMethod ({ cls := "WithinWords", name := "someGo", desc := "(II)I" } : Jvm.MethodName)) ∈ lw_tbl := lw_at lw_m3 167 rfl
theorem q727 : (Jvm.Cond.instanceMethod ({ cls := "WithinWords", name := "someGo", desc := "(II)I" } : Jvm.MethodName)) ∈ lw_all := lw_g (lw_at lw_m3 168 rfl) rfl
theorem q728 : (Jvm.Cond.code ({ cls := "WithinWords", name := "someGo", desc := "(II)I" } : Jvm.MethodName) prog_1_method_66_code (6 : Nat) (Option.some Jvm.ClassFile.FieldType.int)) ∈ lw_all := lw_g (lw_at lw_m3 169 rfl) rfl
theorem q730 : (Jvm.Cond.instanceMethod ({ cls := "WithinWords", name := "both", desc := "(II)I" } : Jvm.MethodName)) ∈ lw_all := lw_g (lw_at lw_m3 171 rfl) rfl
theorem q731 : (Jvm.Cond.selects "WithinWords" ({ cls := "WithinWords", name := "both", desc := "(II)I" } : Jvm.MethodName) ({ cls := "WithinWords", name := "both", desc := "(II)I" } : Jvm.MethodName)) ∈ lw_all := lw_g (lw_at lw_m3 172 rfl) rfl
theorem q732 : (Jvm.Cond.code ({ cls := "WithinWords", name := "both", desc := "(II)I" } : Jvm.MethodName) prog_1_method_69_code (13 : Nat) (Option.some Jvm.ClassFile.FieldType.int)) ∈ lw_all := lw_g (lw_at lw_m3 173 rfl) rfl
theorem q734 : (Jvm.Cond.instanceMethod ({ cls := "WithinWords", name := "twins", desc := "(III)I" } : Jvm.MethodName)) ∈ lw_all := lw_g (lw_at lw_m3 175 rfl) rfl
theorem q735 : (Jvm.Cond.selects "WithinWords" ({ cls := "WithinWords", name := "twins", desc := "(III)I" } : Jvm.MethodName) ({ cls := "WithinWords", name := "twins", desc := "(III)I" } : Jvm.MethodName)) ∈ lw_all := lw_g (lw_at lw_m3 176 rfl) rfl
theorem q736 : (Jvm.Cond.code ({ cls := "WithinWords", name := "twins", desc := "(III)I" } : Jvm.MethodName) prog_1_method_72_code (16 : Nat) (Option.some Jvm.ClassFile.FieldType.int)) ∈ lw_all := lw_g (lw_at lw_m3 177 rfl) rfl
theorem q737 : (Jvm.Cond.methodLink "WithinWords" (296 : Nat) ({ cls := "WithinWords", name := "power", desc := "(I)I" } : Jvm.MethodName)) ∈ lw_all := lw_g (lw_at lw_m3 178 rfl) rfl
theorem q738 : (Jvm.Cond.privateMethod ({ cls := "WithinWords", name := "power", desc := "(I)I" } : Jvm.MethodName)) ∈ lw_tbl := lw_at lw_m3 179 rfl
theorem q739 : (Jvm.Cond.instanceMethod ({ cls := "WithinWords", name := "power", desc := "(I)I" } : Jvm.MethodName)) ∈ lw_all := lw_g (lw_at lw_m3 180 rfl) rfl
theorem q740 : (Jvm.Cond.code ({ cls := "WithinWords", name := "power", desc := "(I)I" } : Jvm.MethodName) prog_1_method_71_code (4 : Nat) (Option.some Jvm.ClassFile.FieldType.int)) ∈ lw_all := lw_g (lw_at lw_m3 181 rfl) rfl
theorem q741 : (Jvm.Cond.methodLink "WithinWords" (299 : Nat) ({ cls := "WithinWords", name := "spell", desc := "(I[B)V" } : Jvm.MethodName)) ∈ lw_all := lw_g (lw_at lw_m3 182 rfl) rfl
theorem q742 : (Jvm.Cond.privateMethod ({ cls := "WithinWords", name := "spell", desc := "(I[B)V" } : Jvm.MethodName)) ∈ lw_tbl := lw_at lw_m3 183 rfl
theorem q743 : (Jvm.Cond.instanceMethod ({ cls := "WithinWords", name := "spell", desc := "(I[B)V" } : Jvm.MethodName)) ∈ lw_all := lw_g (lw_at lw_m3 184 rfl) rfl
theorem q744 : (Jvm.Cond.code ({ cls := "WithinWords", name := "spell", desc := "(I[B)V" } : Jvm.MethodName) prog_1_method_70_code (5 : Nat) (Option.none : Option Jvm.ClassFile.FieldType)) ∈ lw_all := lw_g (lw_at lw_m3 185 rfl) rfl
theorem q745 : (Jvm.Cond.methodLink "WithinWords" (303 : Nat) ({ cls := "WithinWords", name := "few", desc := "([B[B)J" } : Jvm.MethodName)) ∈ lw_all := lw_g (lw_at lw_m3 186 rfl) rfl
theorem q746 : (Jvm.Cond.static ({ cls := "WithinWords", name := "few", desc := "([B[B)J" } : Jvm.MethodName)) ∈ lw_all := lw_g (lw_at lw_m3 187 rfl) rfl
theorem q747 : (Jvm.Cond.code ({ cls := "WithinWords", name := "few", desc := "([B[B)J" } : Jvm.MethodName) prog_1_method_73_code (12 : Nat) (Option.some Jvm.ClassFile.FieldType.long)) ∈ lw_all := lw_g (lw_at lw_m3 188 rfl) rfl
theorem q749 : (Jvm.Cond.instanceMethod ({ cls := "WithinWords", name := "odds", desc := "(II)I" } : Jvm.MethodName)) ∈ lw_all := lw_g (lw_at lw_m3 190 rfl) rfl
theorem q750 : (Jvm.Cond.selects "WithinWords" ({ cls := "WithinWords", name := "odds", desc := "(II)I" } : Jvm.MethodName) ({ cls := "WithinWords", name := "odds", desc := "(II)I" } : Jvm.MethodName)) ∈ lw_all := lw_g (lw_at lw_m3 191 rfl) rfl
theorem q751 : (Jvm.Cond.code ({ cls := "WithinWords", name := "odds", desc := "(II)I" } : Jvm.MethodName) prog_1_method_75_code (4 : Nat) (Option.some Jvm.ClassFile.FieldType.int)) ∈ lw_all := lw_g (lw_at lw_m3 192 rfl) rfl
theorem q752 : (Jvm.Cond.methodLink "WithinWords" (306 : Nat) ({ cls := "WithinWords", name := "choose", desc := "(II)J" } : Jvm.MethodName)) ∈ lw_all := lw_g (lw_at lw_m3 193 rfl) rfl
theorem q753 : (Jvm.Cond.static ({ cls := "WithinWords", name := "choose", desc := "(II)J" } : Jvm.MethodName)) ∈ lw_all := lw_g (lw_at lw_m3 194 rfl) rfl
theorem q754 : (Jvm.Cond.code ({ cls := "WithinWords", name := "choose", desc := "(II)J" } : Jvm.MethodName) prog_1_method_74_code (5 : Nat) (Option.some Jvm.ClassFile.FieldType.long)) ∈ lw_all := lw_g (lw_at lw_m3 195 rfl) rfl
theorem q755 : (Jvm.Cond.methodLink "WithinWords" (310 : Nat) ({ cls := "WithinWords", name := "share", desc := "(JJI)I" } : Jvm.MethodName)) ∈ lw_all := lw_g (lw_at lw_m3 196 rfl) rfl
theorem q756 : (Jvm.Cond.privateMethod ({ cls := "WithinWords", name := "share", desc := "(JJI)I" } : Jvm.MethodName)) ∈ lw_tbl := lw_at lw_m3 197 rfl
theorem q757 : (Jvm.Cond.instanceMethod ({ cls := "WithinWords", name := "share", desc := "(JJI)I" } : Jvm.MethodName)) ∈ lw_all := lw_g (lw_at lw_m3 198 rfl) rfl
theorem q758 : (Jvm.Cond.code ({ cls := "WithinWords", name := "share", desc := "(JJI)I" } : Jvm.MethodName) prog_1_method_5_code (12 : Nat) (Option.some Jvm.ClassFile.FieldType.int)) ∈ lw_all := lw_g (lw_at lw_m3 199 rfl) rfl
theorem q760 : (Jvm.Cond.instanceMethod ({ cls := "WithinWords", name := "byChance", desc := "(II)I" } : Jvm.MethodName)) ∈ lw_all := lw_g (lw_at lw_m3 201 rfl) rfl
theorem q761 : (Jvm.Cond.selects "WithinWords" ({ cls := "WithinWords", name := "byChance", desc := "(II)I" } : Jvm.MethodName) ({ cls := "WithinWords", name := "byChance", desc := "(II)I" } : Jvm.MethodName)) ∈ lw_all := lw_g (lw_at lw_m3 202 rfl) rfl
theorem q762 : (Jvm.Cond.code ({ cls := "WithinWords", name := "byChance", desc := "(II)I" } : Jvm.MethodName) prog_1_method_76_code (10 : Nat) (Option.some Jvm.ClassFile.FieldType.int)) ∈ lw_all := lw_g (lw_at lw_m3 203 rfl) rfl
theorem q764 : (Jvm.Cond.instanceMethod ({ cls := "WithinWords", name := "asked", desc := "()I" } : Jvm.MethodName)) ∈ lw_all := lw_g (lw_at lw_m3 205 rfl) rfl
theorem q765 : (Jvm.Cond.selects "WithinWords" ({ cls := "WithinWords", name := "asked", desc := "()I" } : Jvm.MethodName) ({ cls := "WithinWords", name := "asked", desc := "()I" } : Jvm.MethodName)) ∈ lw_all := lw_g (lw_at lw_m3 206 rfl) rfl
theorem q766 : (Jvm.Cond.code ({ cls := "WithinWords", name := "asked", desc := "()I" } : Jvm.MethodName) prog_1_method_77_code (1 : Nat) (Option.some Jvm.ClassFile.FieldType.int)) ∈ lw_all := lw_g (lw_at lw_m3 207 rfl) rfl
theorem q768 : (Jvm.Cond.instanceMethod ({ cls := "WithinWords", name := "many", desc := "()J" } : Jvm.MethodName)) ∈ lw_all := lw_g (lw_at lw_m3 209 rfl) rfl
theorem q769 : (Jvm.Cond.selects "WithinWords" ({ cls := "WithinWords", name := "many", desc := "()J" } : Jvm.MethodName) ({ cls := "WithinWords", name := "many", desc := "()J" } : Jvm.MethodName)) ∈ lw_all := lw_g (lw_at lw_m3 210 rfl) rfl
theorem q770 : (Jvm.Cond.code ({ cls := "WithinWords", name := "many", desc := "()J" } : Jvm.MethodName) prog_1_method_78_code (1 : Nat) (Option.some Jvm.ClassFile.FieldType.long)) ∈ lw_all := lw_g (lw_at lw_m3 211 rfl) rfl
theorem q772 : (Jvm.Cond.instanceMethod ({ cls := "WithinWords", name := "upper", desc := "()J" } : Jvm.MethodName)) ∈ lw_all := lw_g (lw_at lw_m3 213 rfl) rfl
theorem q773 : (Jvm.Cond.selects "WithinWords" ({ cls := "WithinWords", name := "upper", desc := "()J" } : Jvm.MethodName) ({ cls := "WithinWords", name := "upper", desc := "()J" } : Jvm.MethodName)) ∈ lw_all := lw_g (lw_at lw_m3 214 rfl) rfl
theorem q774 : (Jvm.Cond.code ({ cls := "WithinWords", name := "upper", desc := "()J" } : Jvm.MethodName) prog_1_method_79_code (1 : Nat) (Option.some Jvm.ClassFile.FieldType.long)) ∈ lw_all := lw_g (lw_at lw_m3 215 rfl) rfl
theorem q776 : (Jvm.Cond.instanceMethod ({ cls := "WithinWords", name := "lower", desc := "()J" } : Jvm.MethodName)) ∈ lw_all := lw_g (lw_at lw_m3 217 rfl) rfl
theorem q777 : (Jvm.Cond.selects "WithinWords" ({ cls := "WithinWords", name := "lower", desc := "()J" } : Jvm.MethodName) ({ cls := "WithinWords", name := "lower", desc := "()J" } : Jvm.MethodName)) ∈ lw_all := lw_g (lw_at lw_m3 218 rfl) rfl
theorem q778 : (Jvm.Cond.code ({ cls := "WithinWords", name := "lower", desc := "()J" } : Jvm.MethodName) prog_1_method_80_code (1 : Nat) (Option.some Jvm.ClassFile.FieldType.long)) ∈ lw_all := lw_g (lw_at lw_m3 219 rfl) rfl
theorem q780 : (Jvm.Cond.instanceMethod ({ cls := "WithinWords", name := "count", desc := "(I)I" } : Jvm.MethodName)) ∈ lw_all := lw_g (lw_at lw_m3 221 rfl) rfl
theorem q781 : (Jvm.Cond.selects "WithinWords" ({ cls := "WithinWords", name := "count", desc := "(I)I" } : Jvm.MethodName) ({ cls := "WithinWords", name := "count", desc := "(I)I" } : Jvm.MethodName)) ∈ lw_all := lw_g (lw_at lw_m3 222 rfl) rfl
theorem q782 : (Jvm.Cond.code ({ cls := "WithinWords", name := "count", desc := "(I)I" } : Jvm.MethodName) prog_1_method_86_code (2 : Nat) (Option.some Jvm.ClassFile.FieldType.int)) ∈ lw_all := lw_g (lw_at lw_m3 223 rfl) rfl
theorem q783 : (Jvm.Cond.methodLink "WithinWords" (329 : Nat) ({ cls := "WithinWords", name := "countsOf", desc := "(I)I" } : Jvm.MethodName)) ∈ lw_all := lw_g (lw_at lw_m3 224 rfl) rfl
theorem q784 : (Jvm.Cond.privateMethod ({ cls := "WithinWords", name := "countsOf", desc := "(I)I" } : Jvm.MethodName)) ∈ lw_tbl := lw_at lw_m3 225 rfl
theorem q785 : (Jvm.Cond.instanceMethod ({ cls := "WithinWords", name := "countsOf", desc := "(I)I" } : Jvm.MethodName)) ∈ lw_all := lw_g (lw_at lw_m3 226 rfl) rfl
theorem q786 : (Jvm.Cond.code ({ cls := "WithinWords", name := "countsOf", desc := "(I)I" } : Jvm.MethodName) prog_1_method_85_code (2 : Nat) (Option.some Jvm.ClassFile.FieldType.int)) ∈ lw_all := lw_g (lw_at lw_m3 227 rfl) rfl
theorem q787 : (Jvm.Cond.methodLink "WithinWords" (317 : Nat) ({ cls := "WithinWords", name := "rowCount", desc := "()I" } : Jvm.MethodName)) ∈ lw_all := lw_g (lw_at lw_m3 228 rfl) rfl
theorem q788 : (Jvm.Cond.privateMethod ({ cls := "WithinWords", name := "rowCount", desc := "()I" } : Jvm.MethodName)) ∈ lw_tbl := lw_at lw_m3 229 rfl
theorem q789 : (Jvm.Cond.instanceMethod ({ cls := "WithinWords", name := "rowCount", desc := "()I" } : Jvm.MethodName)) ∈ lw_all := lw_g (lw_at lw_m3 230 rfl) rfl
theorem q790 : (Jvm.Cond.code ({ cls := "WithinWords", name := "rowCount", desc := "()I" } : Jvm.MethodName) prog_1_method_81_code (6 : Nat) (Option.some Jvm.ClassFile.FieldType.int)) ∈ lw_all := lw_g (lw_at lw_m3 231 rfl) rfl
theorem q791 : (Jvm.Cond.methodLink "WithinWords" (320 : Nat) ({ cls := "WithinWords", name := "textCount", desc := "()I" } : Jvm.MethodName)) ∈ lw_all := lw_g (lw_at lw_m3 232 rfl) rfl
theorem q792 : (Jvm.Cond.privateMethod ({ cls := "WithinWords", name := "textCount", desc := "()I" } : Jvm.MethodName)) ∈ lw_tbl := lw_at lw_m3 233 rfl
theorem q793 : (Jvm.Cond.instanceMethod ({ cls := "WithinWords", name := "textCount", desc := "()I" } : Jvm.MethodName)) ∈ lw_all := lw_g (lw_at lw_m3 234 rfl) rfl
theorem q794 : (Jvm.Cond.code ({ cls := "WithinWords", name := "textCount", desc := "()I" } : Jvm.MethodName) prog_1_method_82_code (6 : Nat) (Option.some Jvm.ClassFile.FieldType.int)) ∈ lw_all := lw_g (lw_at lw_m3 235 rfl) rfl
theorem q795 : (Jvm.Cond.methodLink "WithinWords" (323 : Nat) ({ cls := "WithinWords", name := "wordCount", desc := "(I)I" } : Jvm.MethodName)) ∈ lw_all := lw_g (lw_at lw_m3 236 rfl) rfl
theorem q796 : (Jvm.Cond.privateMethod ({ cls := "WithinWords", name := "wordCount", desc := "(I)I" } : Jvm.MethodName)) ∈ lw_tbl := lw_at lw_m3 237 rfl
theorem q797 : (Jvm.Cond.instanceMethod ({ cls := "WithinWords", name := "wordCount", desc := "(I)I" } : Jvm.MethodName)) ∈ lw_all := lw_g (lw_at lw_m3 238 rfl) rfl
theorem q798 : (Jvm.Cond.code ({ cls := "WithinWords", name := "wordCount", desc := "(I)I" } : Jvm.MethodName) prog_1_method_83_code (7 : Nat) (Option.some Jvm.ClassFile.FieldType.int)) ∈ lw_all := lw_g (lw_at lw_m3 239 rfl) rfl
theorem q799 : (Jvm.Cond.methodLink "WithinWords" (314 : Nat) ({ cls := "WithinWords$Word", name := "is", desc := "(I)Z" } : Jvm.MethodName)) ∈ lw_all := lw_g (lw_at lw_m4 0 rfl) rfl
theorem q820 : (Jvm.Cond.methodLink "WithinWords" (326 : Nat) ({ cls := "WithinWords", name := "letterCount", desc := "()I" } : Jvm.MethodName)) ∈ lw_all := lw_g (lw_at lw_m4 21 rfl) rfl
theorem q821 : (Jvm.Cond.privateMethod ({ cls := "WithinWords", name := "letterCount", desc := "()I" } : Jvm.MethodName)) ∈ lw_tbl := lw_at lw_m4 22 rfl
theorem q822 : (Jvm.Cond.instanceMethod ({ cls := "WithinWords", name := "letterCount", desc := "()I" } : Jvm.MethodName)) ∈ lw_all := lw_g (lw_at lw_m4 23 rfl) rfl
theorem q823 : (Jvm.Cond.code ({ cls := "WithinWords", name := "letterCount", desc := "()I" } : Jvm.MethodName) prog_1_method_84_code (6 : Nat) (Option.some Jvm.ClassFile.FieldType.int)) ∈ lw_all := lw_g (lw_at lw_m4 24 rfl) rfl
theorem q825 : (Jvm.Cond.instanceMethod ({ cls := "WithinWords", name := "finding", desc := "()I" } : Jvm.MethodName)) ∈ lw_all := lw_g (lw_at lw_m4 26 rfl) rfl
theorem q826 : (Jvm.Cond.selects "WithinWords" ({ cls := "WithinWords", name := "finding", desc := "()I" } : Jvm.MethodName) ({ cls := "WithinWords", name := "finding", desc := "()I" } : Jvm.MethodName)) ∈ lw_all := lw_g (lw_at lw_m4 27 rfl) rfl
theorem q827 : (Jvm.Cond.code ({ cls := "WithinWords", name := "finding", desc := "()I" } : Jvm.MethodName) prog_1_method_87_code (1 : Nat) (Option.some Jvm.ClassFile.FieldType.int)) ∈ lw_all := lw_g (lw_at lw_m4 28 rfl) rfl
theorem q829 : (Jvm.Cond.instanceMethod ({ cls := "WithinWords", name := "findings", desc := "(I)I" } : Jvm.MethodName)) ∈ lw_all := lw_g (lw_at lw_m4 30 rfl) rfl
theorem q830 : (Jvm.Cond.selects "WithinWords" ({ cls := "WithinWords", name := "findings", desc := "(I)I" } : Jvm.MethodName) ({ cls := "WithinWords", name := "findings", desc := "(I)I" } : Jvm.MethodName)) ∈ lw_all := lw_g (lw_at lw_m4 31 rfl) rfl
theorem q831 : (Jvm.Cond.code ({ cls := "WithinWords", name := "findings", desc := "(I)I" } : Jvm.MethodName) prog_1_method_88_code (2 : Nat) (Option.some Jvm.ClassFile.FieldType.int)) ∈ lw_all := lw_g (lw_at lw_m4 32 rfl) rfl
theorem q833 : (Jvm.Cond.instanceMethod ({ cls := "WithinWords", name := "digest", desc := "()J" } : Jvm.MethodName)) ∈ lw_all := lw_g (lw_at lw_m4 34 rfl) rfl
theorem q834 : (Jvm.Cond.selects "WithinWords" ({ cls := "WithinWords", name := "digest", desc := "()J" } : Jvm.MethodName) ({ cls := "WithinWords", name := "digest", desc := "()J" } : Jvm.MethodName)) ∈ lw_all := lw_g (lw_at lw_m4 35 rfl) rfl
theorem q835 : (Jvm.Cond.code ({ cls := "WithinWords", name := "digest", desc := "()J" } : Jvm.MethodName) prog_1_method_91_code (7 : Nat) (Option.some Jvm.ClassFile.FieldType.long)) ∈ lw_all := lw_g (lw_at lw_m4 36 rfl) rfl
theorem q836 : (Jvm.Cond.constantLong "WithinWords" (343 : Nat) (17 : Int64)) ∈ lw_all := lw_g (lw_at lw_m4 37 rfl) rfl
theorem q837 : (Jvm.Cond.methodLink "WithinWords" (337 : Nat) ({ cls := "WithinWords", name := "mix", desc := "(I)V" } : Jvm.MethodName)) ∈ lw_all := lw_g (lw_at lw_m4 38 rfl) rfl
theorem q838 : (Jvm.Cond.privateMethod ({ cls := "WithinWords", name := "mix", desc := "(I)V" } : Jvm.MethodName)) ∈ lw_tbl := lw_at lw_m4 39 rfl
theorem q839 : (Jvm.Cond.instanceMethod ({ cls := "WithinWords", name := "mix", desc := "(I)V" } : Jvm.MethodName)) ∈ lw_all := lw_g (lw_at lw_m4 40 rfl) rfl
theorem q840 : (Jvm.Cond.code ({ cls := "WithinWords", name := "mix", desc := "(I)V" } : Jvm.MethodName) prog_1_method_89_code (2 : Nat) (Option.none : Option Jvm.ClassFile.FieldType)) ∈ lw_all := lw_g (lw_at lw_m4 41 rfl) rfl
theorem q841 : (Jvm.Cond.constantLong "WithinWords" (332 : Nat) (31 : Int64)) ∈ lw_all := lw_g (lw_at lw_m4 42 rfl) rfl
theorem q842 : (Jvm.Cond.methodLink "WithinWords" (345 : Nat) ({ cls := "WithinWords", name := "mixWords", desc := "()V" } : Jvm.MethodName)) ∈ lw_all := lw_g (lw_at lw_m4 43 rfl) rfl
theorem q843 : (Jvm.Cond.privateMethod ({ cls := "WithinWords", name := "mixWords", desc := "()V" } : Jvm.MethodName)) ∈ lw_tbl := lw_at lw_m4 44 rfl
theorem q844 : (Jvm.Cond.instanceMethod ({ cls := "WithinWords", name := "mixWords", desc := "()V" } : Jvm.MethodName)) ∈ lw_all := lw_g (lw_at lw_m4 45 rfl) rfl
theorem q845 : (Jvm.Cond.code ({ cls := "WithinWords", name := "mixWords", desc := "()V" } : Jvm.MethodName) prog_1_method_90_code (9 : Nat) (Option.none : Option Jvm.ClassFile.FieldType)) ∈ lw_all := lw_g (lw_at lw_m4 46 rfl) rfl
theorem q846 : (Jvm.Cond.methodLink "WithinWords" (340 : Nat) ({ cls := "WithinWords$Word", name := "tells", desc := "()I" } : Jvm.MethodName)) ∈ lw_all := lw_g (lw_at lw_m4 47 rfl) rfl
theorem in_X0 : ∀ w ∈ wsX00, w ∈ lw_all := lw_in wsX00 [148, 150, 152, 154, 156, 158, 160, 162, 164, 166, 168, 170, 172, 174, 176, 178, 180, 182, 184, 186, 188, 190, 192, 194, 196, 198, 200, 202, 204, 206, 208, 210, 212] (by decide +kernel) (by decide +kernel)
