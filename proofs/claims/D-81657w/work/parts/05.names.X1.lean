/-! WithinWordsModel -/
set_option maxRecDepth 100000
def RX1 : String := "WithinWordsModel"
def TX1 : u_T := fun k => match k with
  | 0 => ("WithinWordsModel", "latest", "I", false)
  | 1 => ("WithinWordsModel", "came", "[I", true)
  | 2 => ("WithinWordsModel", "asked", "I", false)
  | 3 => ("WithinWordsModel", "many", "J", false)
  | 4 => ("WithinWordsModel", "upper", "J", false)
  | 5 => ("WithinWordsModel", "lower", "J", false)
  | 6 => ("WithinWordsModel", "sizes", "[I", true)
  | 7 => ("WithinWordsModel", "rows", "[I", true)
  | 8 => ("WithinWordsModel", "copied", "[I", true)
  | 9 => ("WithinWordsModel", "textSizes", "[I", true)
  | 10 => ("WithinWordsModel", "bytes", "[B", true)
  | 11 => ("WithinWordsModel", "letterMany", "I", false)
  | 12 => ("WithinWordsModel", "wordSizes", "[I", true)
  | 13 => ("WithinWordsModel", "letters", "[I", true)
  | 14 => ("WithinWordsModel", "kinds", "[I", true)
  | 15 => ("WithinWordsModel", "ofs", "[I", true)
  | 16 => ("WithinWordsModel", "tolds", "[I", true)
  | 17 => ("WithinWordsModel", "madeSize", "I", false)
  | 18 => ("WithinWordsModel", "made", "[I", true)
  | 19 => ("WithinWordsModel", "begins", "[I", true)
  | 20 => ("WithinWordsModel", "items", "[I", true)
  | 21 => ("WithinWordsModel", "isOver", "Z", false)
  | 22 => ("WithinWordsModel", "counts", "[J", true)
  | 23 => ("WithinWordsModel", "early", "[I", true)
  | 24 => ("WithinWordsModel", "late", "[I", true)
  | 25 => ("WithinWordsModel", "takes", "[I", true)
  | 26 => ("WithinWordsModel", "inners", "[J", true)
  | 27 => ("WithinWordsModel", "restFrom", "I", false)
  | 28 => ("WithinWordsModel", "restSet", "I", false)
  | 29 => ("WithinWordsModel", "queue", "[I", true)
  | 30 => ("WithinWordsModel", "whence", "[I", true)
  | 31 => ("WithinWordsModel", "byLetter", "[I", true)
  | 32 => ("WithinWordsModel", "isCome", "[Z", true)
  | 33 => ("WithinWordsModel", "otherSize", "I", false)
  | 34 => ("WithinWordsModel", "other", "[I", true)
  | 35 => ("WithinWordsModel", "ofMany", "I", false)
  | 36 => ("WithinWordsModel", "ofWords", "[I", true)
  | 37 => ("WithinWordsModel", "best", "[I", true)
  | 38 => ("WithinWordsModel", "at", "[I", true)
  | 39 => ("WithinWordsModel", "boths", "[J", true)
  | 40 => ("WithinWordsModel", "often", "[J", true)
  | 41 => ("WithinWordsModel", "oftenThen", "[J", true)
  | 42 => ("WithinWordsModel", "short3", "[J", true)
  | _ => ("WithinWordsModel", "h", "J", false)
def tyX1 : Nat → FieldType := fun k => match k with
  | 0 => .int
  | 1 => .array .int
  | 2 => .int
  | 3 => .long
  | 4 => .long
  | 5 => .long
  | 6 => .array .int
  | 7 => .array .int
  | 8 => .array .int
  | 9 => .array .int
  | 10 => .array .byte
  | 11 => .int
  | 12 => .array .int
  | 13 => .array .int
  | 14 => .array .int
  | 15 => .array .int
  | 16 => .array .int
  | 17 => .int
  | 18 => .array .int
  | 19 => .array .int
  | 20 => .array .int
  | 21 => .boolean
  | 22 => .array .long
  | 23 => .array .int
  | 24 => .array .int
  | 25 => .array .int
  | 26 => .array .long
  | 27 => .int
  | 28 => .int
  | 29 => .array .int
  | 30 => .array .int
  | 31 => .array .int
  | 32 => .array .boolean
  | 33 => .int
  | 34 => .array .int
  | 35 => .int
  | 36 => .array .int
  | 37 => .array .int
  | 38 => .array .int
  | 39 => .array .long
  | 40 => .array .long
  | 41 => .array .long
  | 42 => .array .long
  | _ => .long
abbrev wsX10 : List Cond := u_ws RX1 TX1 44
set_option maxRecDepth 100000 in
theorem nmX1 : ∀ a, a < 44 → ∀ b, b < 44 → a ≠ b → (TX1 a).2.1 ≠ (TX1 b).2.1 := by decide +kernel
set_option maxRecDepth 100000 in
theorem tyX1_ok : ∀ k, k < 44 → parseFieldDescriptor (TX1 k).2.2.1 = some (tyX1 k) := by decide +kernel
abbrev cX1_init : ByteArray := prog_8_method_1_code
def yX1_init : MethodName := ⟨RX1, "<init>", "()V"⟩
def dkwX1_init_14 : List UInt8 := [177]
abbrev dktX1_init_14 : List UInt8 := dkwX1_init_14 ++ []
def dkwX1_init_13 : List UInt8 := [167, 255, 241, 3, 60, 27, 16, 8, 162, 0, 16, 42, 180, 0, 29, 27, 2, 79, 132, 1, 1, 167, 255, 240]
abbrev dktX1_init_13 : List UInt8 := dkwX1_init_13 ++ dktX1_init_14
def dkwX1_init_12 : List UInt8 := [132, 1, 1, 167, 255, 240, 3, 60, 27, 7, 162, 0, 16, 42, 180, 0, 22, 27, 2, 79, 132, 1, 1]
abbrev dktX1_init_12 : List UInt8 := dkwX1_init_12 ++ dktX1_init_13
def dkwX1_init_11 : List UInt8 := [181, 0, 106, 42, 6, 181, 0, 110, 3, 60, 27, 16, 6, 162, 0, 16, 42, 180, 0, 13, 27, 2, 79]
abbrev dktX1_init_11 : List UInt8 := dkwX1_init_11 ++ dktX1_init_12
def dkwX1_init_10 : List UInt8 := [188, 11, 181, 0, 97, 42, 17, 0, 216, 188, 11, 181, 0, 100, 42, 7, 188, 11, 181, 0, 103, 42, 10]
abbrev dktX1_init_10 : List UInt8 := dkwX1_init_10 ++ dktX1_init_11
def dkwX1_init_9 : List UInt8 := [181, 0, 88, 42, 7, 188, 10, 181, 0, 91, 42, 17, 6, 145, 188, 11, 181, 0, 94, 42, 17, 0, 216]
abbrev dktX1_init_9 : List UInt8 := dkwX1_init_9 ++ dktX1_init_10
def dkwX1_init_8 : List UInt8 := [181, 0, 78, 42, 16, 40, 188, 10, 181, 0, 82, 42, 7, 188, 10, 181, 0, 85, 42, 17, 78, 33, 188, 10]
abbrev dktX1_init_8 : List UInt8 := dkwX1_init_8 ++ dktX1_init_9
def dkwX1_init_7 : List UInt8 := [17, 6, 164, 188, 10, 181, 0, 72, 42, 17, 6, 164, 188, 10, 181, 0, 75, 42, 17, 6, 164, 188, 4]
abbrev dktX1_init_7 : List UInt8 := dkwX1_init_7 ++ dktX1_init_8
def dkwX1_init_6 : List UInt8 := [188, 10, 181, 0, 63, 42, 17, 6, 145, 188, 11, 181, 0, 66, 42, 17, 6, 164, 188, 10, 181, 0, 69, 42]
abbrev dktX1_init_6 : List UInt8 := dkwX1_init_6 ++ dktX1_init_7
def dkwX1_init_5 : List UInt8 := [188, 11, 181, 0, 53, 42, 16, 40, 188, 10, 181, 0, 57, 42, 16, 40, 188, 10, 181, 0, 60, 42, 16, 41]
abbrev dktX1_init_5 : List UInt8 := dkwX1_init_5 ++ dktX1_init_6
def dkwX1_init_4 : List UInt8 := [16, 40, 188, 10, 181, 0, 44, 42, 8, 188, 10, 181, 0, 47, 42, 8, 188, 10, 181, 0, 50, 42, 16, 41]
abbrev dktX1_init_4 : List UInt8 := dkwX1_init_4 ++ dktX1_init_5
def dkwX1_init_3 : List UInt8 := [16, 8, 188, 10, 181, 0, 35, 42, 16, 8, 188, 10, 181, 0, 38, 42, 16, 8, 188, 10, 181, 0, 41, 42]
abbrev dktX1_init_3 : List UInt8 := dkwX1_init_3 ++ dktX1_init_4
def dkwX1_init_2 : List UInt8 := [188, 8, 181, 0, 25, 42, 16, 8, 188, 10, 181, 0, 29, 42, 17, 1, 64, 188, 10, 181, 0, 32, 42]
abbrev dktX1_init_2 : List UInt8 := dkwX1_init_2 ++ dktX1_init_3
def dkwX1_init_1 : List UInt8 := [188, 10, 181, 0, 16, 42, 16, 40, 188, 10, 181, 0, 19, 42, 7, 188, 10, 181, 0, 22, 42, 17, 0, 240]
abbrev dktX1_init_1 : List UInt8 := dkwX1_init_1 ++ dktX1_init_2
def dkwX1_init_0 : List UInt8 := [42, 183, 0, 1, 42, 16, 6, 188, 10, 181, 0, 7, 42, 16, 6, 188, 10, 181, 0, 13, 42, 17, 0, 240]
abbrev dktX1_init_0 : List UInt8 := dkwX1_init_0 ++ dktX1_init_1
theorem dksX1_init_0 : cX1_init.data.toList.drop 0 = dktX1_init_0 := by decide +kernel
theorem dksX1_init_1 : cX1_init.data.toList.drop 24 = dktX1_init_1 := dk_seg dksX1_init_0 24 rfl rfl
theorem dksX1_init_2 : cX1_init.data.toList.drop 48 = dktX1_init_2 := dk_seg dksX1_init_1 24 rfl rfl
theorem dksX1_init_3 : cX1_init.data.toList.drop 71 = dktX1_init_3 := dk_seg dksX1_init_2 23 rfl rfl
theorem dksX1_init_4 : cX1_init.data.toList.drop 95 = dktX1_init_4 := dk_seg dksX1_init_3 24 rfl rfl
theorem dksX1_init_5 : cX1_init.data.toList.drop 119 = dktX1_init_5 := dk_seg dksX1_init_4 24 rfl rfl
theorem dksX1_init_6 : cX1_init.data.toList.drop 143 = dktX1_init_6 := dk_seg dksX1_init_5 24 rfl rfl
theorem dksX1_init_7 : cX1_init.data.toList.drop 167 = dktX1_init_7 := dk_seg dksX1_init_6 24 rfl rfl
theorem dksX1_init_8 : cX1_init.data.toList.drop 190 = dktX1_init_8 := dk_seg dksX1_init_7 23 rfl rfl
theorem dksX1_init_9 : cX1_init.data.toList.drop 214 = dktX1_init_9 := dk_seg dksX1_init_8 24 rfl rfl
theorem dksX1_init_10 : cX1_init.data.toList.drop 237 = dktX1_init_10 := dk_seg dksX1_init_9 23 rfl rfl
theorem dksX1_init_11 : cX1_init.data.toList.drop 260 = dktX1_init_11 := dk_seg dksX1_init_10 23 rfl rfl
theorem dksX1_init_12 : cX1_init.data.toList.drop 283 = dktX1_init_12 := dk_seg dksX1_init_11 23 rfl rfl
theorem dksX1_init_13 : cX1_init.data.toList.drop 306 = dktX1_init_13 := dk_seg dksX1_init_12 23 rfl rfl
theorem dksX1_init_14 : cX1_init.data.toList.drop 330 = dktX1_init_14 := dk_seg dksX1_init_13 24 rfl rfl
theorem dX1_init_0 : decode cX1_init 0 = .ok (.aload_n 0, 1) := dk_42 (dk_at dksX1_init_0 0 rfl rfl)
theorem dX1_init_1 : decode cX1_init 1 = .ok (.invokespecial 1, 3) := dk_183 0 1 (dk_at dksX1_init_0 1 rfl rfl)
theorem dX1_init_4 : decode cX1_init 4 = .ok (.aload_n 0, 1) := dk_42 (dk_at dksX1_init_0 4 rfl rfl)
theorem dX1_init_5 : decode cX1_init 5 = .ok (.bipush 6, 2) := dk_16 6 (dk_at dksX1_init_0 5 rfl rfl)
theorem dX1_init_7 : decode cX1_init 7 = .ok (.newarray .int, 2) := dk_188_10 (dk_at dksX1_init_0 7 rfl rfl)
theorem dX1_init_9 : decode cX1_init 9 = .ok (.putfield 7, 3) := dk_181 0 7 (dk_at dksX1_init_0 9 rfl rfl)
theorem dX1_init_12 : decode cX1_init 12 = .ok (.aload_n 0, 1) := dk_42 (dk_at dksX1_init_0 12 rfl rfl)
theorem dX1_init_13 : decode cX1_init 13 = .ok (.bipush 6, 2) := dk_16 6 (dk_at dksX1_init_0 13 rfl rfl)
theorem dX1_init_15 : decode cX1_init 15 = .ok (.newarray .int, 2) := dk_188_10 (dk_at dksX1_init_0 15 rfl rfl)
theorem dX1_init_17 : decode cX1_init 17 = .ok (.putfield 13, 3) := dk_181 0 13 (dk_at dksX1_init_0 17 rfl rfl)
theorem dX1_init_20 : decode cX1_init 20 = .ok (.aload_n 0, 1) := dk_42 (dk_at dksX1_init_0 20 rfl rfl)
theorem dX1_init_21 : decode cX1_init 21 = .ok (.sipush 240, 3) := dk_17 0 240 (dk_at dksX1_init_0 21 rfl rfl)
theorem dX1_init_24 : decode cX1_init 24 = .ok (.newarray .int, 2) := dk_188_10 (dk_at dksX1_init_1 0 rfl rfl)
theorem dX1_init_26 : decode cX1_init 26 = .ok (.putfield 16, 3) := dk_181 0 16 (dk_at dksX1_init_1 2 rfl rfl)
theorem dX1_init_29 : decode cX1_init 29 = .ok (.aload_n 0, 1) := dk_42 (dk_at dksX1_init_1 5 rfl rfl)
theorem dX1_init_30 : decode cX1_init 30 = .ok (.bipush 40, 2) := dk_16 40 (dk_at dksX1_init_1 6 rfl rfl)
theorem dX1_init_32 : decode cX1_init 32 = .ok (.newarray .int, 2) := dk_188_10 (dk_at dksX1_init_1 8 rfl rfl)
theorem dX1_init_34 : decode cX1_init 34 = .ok (.putfield 19, 3) := dk_181 0 19 (dk_at dksX1_init_1 10 rfl rfl)
theorem dX1_init_37 : decode cX1_init 37 = .ok (.aload_n 0, 1) := dk_42 (dk_at dksX1_init_1 13 rfl rfl)
theorem dX1_init_38 : decode cX1_init 38 = .ok (.iconst 4, 1) := dk_7 (dk_at dksX1_init_1 14 rfl rfl)
theorem dX1_init_39 : decode cX1_init 39 = .ok (.newarray .int, 2) := dk_188_10 (dk_at dksX1_init_1 15 rfl rfl)
theorem dX1_init_41 : decode cX1_init 41 = .ok (.putfield 22, 3) := dk_181 0 22 (dk_at dksX1_init_1 17 rfl rfl)
theorem dX1_init_44 : decode cX1_init 44 = .ok (.aload_n 0, 1) := dk_42 (dk_at dksX1_init_1 20 rfl rfl)
theorem dX1_init_45 : decode cX1_init 45 = .ok (.sipush 240, 3) := dk_17 0 240 (dk_at dksX1_init_1 21 rfl rfl)
theorem dX1_init_48 : decode cX1_init 48 = .ok (.newarray .byte, 2) := dk_188_8 (dk_at dksX1_init_2 0 rfl rfl)
theorem dX1_init_50 : decode cX1_init 50 = .ok (.putfield 25, 3) := dk_181 0 25 (dk_at dksX1_init_2 2 rfl rfl)
theorem dX1_init_53 : decode cX1_init 53 = .ok (.aload_n 0, 1) := dk_42 (dk_at dksX1_init_2 5 rfl rfl)
theorem dX1_init_54 : decode cX1_init 54 = .ok (.bipush 8, 2) := dk_16 8 (dk_at dksX1_init_2 6 rfl rfl)
theorem dX1_init_56 : decode cX1_init 56 = .ok (.newarray .int, 2) := dk_188_10 (dk_at dksX1_init_2 8 rfl rfl)
theorem dX1_init_58 : decode cX1_init 58 = .ok (.putfield 29, 3) := dk_181 0 29 (dk_at dksX1_init_2 10 rfl rfl)
theorem dX1_init_61 : decode cX1_init 61 = .ok (.aload_n 0, 1) := dk_42 (dk_at dksX1_init_2 13 rfl rfl)
theorem dX1_init_62 : decode cX1_init 62 = .ok (.sipush 320, 3) := dk_17 1 64 (dk_at dksX1_init_2 14 rfl rfl)
theorem dX1_init_65 : decode cX1_init 65 = .ok (.newarray .int, 2) := dk_188_10 (dk_at dksX1_init_2 17 rfl rfl)
theorem dX1_init_67 : decode cX1_init 67 = .ok (.putfield 32, 3) := dk_181 0 32 (dk_at dksX1_init_2 19 rfl rfl)
theorem dX1_init_70 : decode cX1_init 70 = .ok (.aload_n 0, 1) := dk_42 (dk_at dksX1_init_2 22 rfl rfl)
theorem dX1_init_71 : decode cX1_init 71 = .ok (.bipush 8, 2) := dk_16 8 (dk_at dksX1_init_3 0 rfl rfl)
theorem dX1_init_73 : decode cX1_init 73 = .ok (.newarray .int, 2) := dk_188_10 (dk_at dksX1_init_3 2 rfl rfl)
theorem dX1_init_75 : decode cX1_init 75 = .ok (.putfield 35, 3) := dk_181 0 35 (dk_at dksX1_init_3 4 rfl rfl)
theorem dX1_init_78 : decode cX1_init 78 = .ok (.aload_n 0, 1) := dk_42 (dk_at dksX1_init_3 7 rfl rfl)
theorem dX1_init_79 : decode cX1_init 79 = .ok (.bipush 8, 2) := dk_16 8 (dk_at dksX1_init_3 8 rfl rfl)
theorem dX1_init_81 : decode cX1_init 81 = .ok (.newarray .int, 2) := dk_188_10 (dk_at dksX1_init_3 10 rfl rfl)
theorem dX1_init_83 : decode cX1_init 83 = .ok (.putfield 38, 3) := dk_181 0 38 (dk_at dksX1_init_3 12 rfl rfl)
theorem dX1_init_86 : decode cX1_init 86 = .ok (.aload_n 0, 1) := dk_42 (dk_at dksX1_init_3 15 rfl rfl)
theorem dX1_init_87 : decode cX1_init 87 = .ok (.bipush 8, 2) := dk_16 8 (dk_at dksX1_init_3 16 rfl rfl)
theorem dX1_init_89 : decode cX1_init 89 = .ok (.newarray .int, 2) := dk_188_10 (dk_at dksX1_init_3 18 rfl rfl)
theorem dX1_init_91 : decode cX1_init 91 = .ok (.putfield 41, 3) := dk_181 0 41 (dk_at dksX1_init_3 20 rfl rfl)
theorem dX1_init_94 : decode cX1_init 94 = .ok (.aload_n 0, 1) := dk_42 (dk_at dksX1_init_3 23 rfl rfl)
theorem dX1_init_95 : decode cX1_init 95 = .ok (.bipush 40, 2) := dk_16 40 (dk_at dksX1_init_4 0 rfl rfl)
theorem dX1_init_97 : decode cX1_init 97 = .ok (.newarray .int, 2) := dk_188_10 (dk_at dksX1_init_4 2 rfl rfl)
theorem dX1_init_99 : decode cX1_init 99 = .ok (.putfield 44, 3) := dk_181 0 44 (dk_at dksX1_init_4 4 rfl rfl)
theorem dX1_init_102 : decode cX1_init 102 = .ok (.aload_n 0, 1) := dk_42 (dk_at dksX1_init_4 7 rfl rfl)
theorem dX1_init_103 : decode cX1_init 103 = .ok (.iconst 5, 1) := dk_8 (dk_at dksX1_init_4 8 rfl rfl)
theorem dX1_init_104 : decode cX1_init 104 = .ok (.newarray .int, 2) := dk_188_10 (dk_at dksX1_init_4 9 rfl rfl)
theorem dX1_init_106 : decode cX1_init 106 = .ok (.putfield 47, 3) := dk_181 0 47 (dk_at dksX1_init_4 11 rfl rfl)
theorem dX1_init_109 : decode cX1_init 109 = .ok (.aload_n 0, 1) := dk_42 (dk_at dksX1_init_4 14 rfl rfl)
theorem dX1_init_110 : decode cX1_init 110 = .ok (.iconst 5, 1) := dk_8 (dk_at dksX1_init_4 15 rfl rfl)
theorem dX1_init_111 : decode cX1_init 111 = .ok (.newarray .int, 2) := dk_188_10 (dk_at dksX1_init_4 16 rfl rfl)
theorem dX1_init_113 : decode cX1_init 113 = .ok (.putfield 50, 3) := dk_181 0 50 (dk_at dksX1_init_4 18 rfl rfl)
theorem dX1_init_116 : decode cX1_init 116 = .ok (.aload_n 0, 1) := dk_42 (dk_at dksX1_init_4 21 rfl rfl)
theorem dX1_init_117 : decode cX1_init 117 = .ok (.bipush 41, 2) := dk_16 41 (dk_at dksX1_init_4 22 rfl rfl)
theorem dX1_init_119 : decode cX1_init 119 = .ok (.newarray .long, 2) := dk_188_11 (dk_at dksX1_init_5 0 rfl rfl)
theorem dX1_init_121 : decode cX1_init 121 = .ok (.putfield 53, 3) := dk_181 0 53 (dk_at dksX1_init_5 2 rfl rfl)
theorem dX1_init_124 : decode cX1_init 124 = .ok (.aload_n 0, 1) := dk_42 (dk_at dksX1_init_5 5 rfl rfl)
theorem dX1_init_125 : decode cX1_init 125 = .ok (.bipush 40, 2) := dk_16 40 (dk_at dksX1_init_5 6 rfl rfl)
theorem dX1_init_127 : decode cX1_init 127 = .ok (.newarray .int, 2) := dk_188_10 (dk_at dksX1_init_5 8 rfl rfl)
theorem dX1_init_129 : decode cX1_init 129 = .ok (.putfield 57, 3) := dk_181 0 57 (dk_at dksX1_init_5 10 rfl rfl)
theorem dX1_init_132 : decode cX1_init 132 = .ok (.aload_n 0, 1) := dk_42 (dk_at dksX1_init_5 13 rfl rfl)
theorem dX1_init_133 : decode cX1_init 133 = .ok (.bipush 40, 2) := dk_16 40 (dk_at dksX1_init_5 14 rfl rfl)
theorem dX1_init_135 : decode cX1_init 135 = .ok (.newarray .int, 2) := dk_188_10 (dk_at dksX1_init_5 16 rfl rfl)
theorem dX1_init_137 : decode cX1_init 137 = .ok (.putfield 60, 3) := dk_181 0 60 (dk_at dksX1_init_5 18 rfl rfl)
theorem dX1_init_140 : decode cX1_init 140 = .ok (.aload_n 0, 1) := dk_42 (dk_at dksX1_init_5 21 rfl rfl)
theorem dX1_init_141 : decode cX1_init 141 = .ok (.bipush 41, 2) := dk_16 41 (dk_at dksX1_init_5 22 rfl rfl)
theorem dX1_init_143 : decode cX1_init 143 = .ok (.newarray .int, 2) := dk_188_10 (dk_at dksX1_init_6 0 rfl rfl)
theorem dX1_init_145 : decode cX1_init 145 = .ok (.putfield 63, 3) := dk_181 0 63 (dk_at dksX1_init_6 2 rfl rfl)
theorem dX1_init_148 : decode cX1_init 148 = .ok (.aload_n 0, 1) := dk_42 (dk_at dksX1_init_6 5 rfl rfl)
theorem dX1_init_149 : decode cX1_init 149 = .ok (.sipush 1681, 3) := dk_17 6 145 (dk_at dksX1_init_6 6 rfl rfl)
theorem dX1_init_152 : decode cX1_init 152 = .ok (.newarray .long, 2) := dk_188_11 (dk_at dksX1_init_6 9 rfl rfl)
theorem dX1_init_154 : decode cX1_init 154 = .ok (.putfield 66, 3) := dk_181 0 66 (dk_at dksX1_init_6 11 rfl rfl)
theorem dX1_init_157 : decode cX1_init 157 = .ok (.aload_n 0, 1) := dk_42 (dk_at dksX1_init_6 14 rfl rfl)
theorem dX1_init_158 : decode cX1_init 158 = .ok (.sipush 1700, 3) := dk_17 6 164 (dk_at dksX1_init_6 15 rfl rfl)
theorem dX1_init_161 : decode cX1_init 161 = .ok (.newarray .int, 2) := dk_188_10 (dk_at dksX1_init_6 18 rfl rfl)
theorem dX1_init_163 : decode cX1_init 163 = .ok (.putfield 69, 3) := dk_181 0 69 (dk_at dksX1_init_6 20 rfl rfl)
theorem dX1_init_166 : decode cX1_init 166 = .ok (.aload_n 0, 1) := dk_42 (dk_at dksX1_init_6 23 rfl rfl)
theorem dX1_init_167 : decode cX1_init 167 = .ok (.sipush 1700, 3) := dk_17 6 164 (dk_at dksX1_init_7 0 rfl rfl)
theorem dX1_init_170 : decode cX1_init 170 = .ok (.newarray .int, 2) := dk_188_10 (dk_at dksX1_init_7 3 rfl rfl)
theorem dX1_init_172 : decode cX1_init 172 = .ok (.putfield 72, 3) := dk_181 0 72 (dk_at dksX1_init_7 5 rfl rfl)
theorem dX1_init_175 : decode cX1_init 175 = .ok (.aload_n 0, 1) := dk_42 (dk_at dksX1_init_7 8 rfl rfl)
theorem dX1_init_176 : decode cX1_init 176 = .ok (.sipush 1700, 3) := dk_17 6 164 (dk_at dksX1_init_7 9 rfl rfl)
theorem dX1_init_179 : decode cX1_init 179 = .ok (.newarray .int, 2) := dk_188_10 (dk_at dksX1_init_7 12 rfl rfl)
theorem dX1_init_181 : decode cX1_init 181 = .ok (.putfield 75, 3) := dk_181 0 75 (dk_at dksX1_init_7 14 rfl rfl)
theorem dX1_init_184 : decode cX1_init 184 = .ok (.aload_n 0, 1) := dk_42 (dk_at dksX1_init_7 17 rfl rfl)
theorem dX1_init_185 : decode cX1_init 185 = .ok (.sipush 1700, 3) := dk_17 6 164 (dk_at dksX1_init_7 18 rfl rfl)
theorem dX1_init_188 : decode cX1_init 188 = .ok (.newarray .boolean, 2) := dk_188_4 (dk_at dksX1_init_7 21 rfl rfl)
theorem dX1_init_190 : decode cX1_init 190 = .ok (.putfield 78, 3) := dk_181 0 78 (dk_at dksX1_init_8 0 rfl rfl)
theorem dX1_init_193 : decode cX1_init 193 = .ok (.aload_n 0, 1) := dk_42 (dk_at dksX1_init_8 3 rfl rfl)
theorem dX1_init_194 : decode cX1_init 194 = .ok (.bipush 40, 2) := dk_16 40 (dk_at dksX1_init_8 4 rfl rfl)
theorem dX1_init_196 : decode cX1_init 196 = .ok (.newarray .int, 2) := dk_188_10 (dk_at dksX1_init_8 6 rfl rfl)
theorem dX1_init_198 : decode cX1_init 198 = .ok (.putfield 82, 3) := dk_181 0 82 (dk_at dksX1_init_8 8 rfl rfl)
theorem dX1_init_201 : decode cX1_init 201 = .ok (.aload_n 0, 1) := dk_42 (dk_at dksX1_init_8 11 rfl rfl)
theorem dX1_init_202 : decode cX1_init 202 = .ok (.iconst 4, 1) := dk_7 (dk_at dksX1_init_8 12 rfl rfl)
theorem dX1_init_203 : decode cX1_init 203 = .ok (.newarray .int, 2) := dk_188_10 (dk_at dksX1_init_8 13 rfl rfl)
theorem dX1_init_205 : decode cX1_init 205 = .ok (.putfield 85, 3) := dk_181 0 85 (dk_at dksX1_init_8 15 rfl rfl)
theorem dX1_init_208 : decode cX1_init 208 = .ok (.aload_n 0, 1) := dk_42 (dk_at dksX1_init_8 18 rfl rfl)
theorem dX1_init_209 : decode cX1_init 209 = .ok (.sipush 20001, 3) := dk_17 78 33 (dk_at dksX1_init_8 19 rfl rfl)
theorem dX1_init_212 : decode cX1_init 212 = .ok (.newarray .int, 2) := dk_188_10 (dk_at dksX1_init_8 22 rfl rfl)
theorem dX1_init_214 : decode cX1_init 214 = .ok (.putfield 88, 3) := dk_181 0 88 (dk_at dksX1_init_9 0 rfl rfl)
theorem dX1_init_217 : decode cX1_init 217 = .ok (.aload_n 0, 1) := dk_42 (dk_at dksX1_init_9 3 rfl rfl)
theorem dX1_init_218 : decode cX1_init 218 = .ok (.iconst 4, 1) := dk_7 (dk_at dksX1_init_9 4 rfl rfl)
theorem dX1_init_219 : decode cX1_init 219 = .ok (.newarray .int, 2) := dk_188_10 (dk_at dksX1_init_9 5 rfl rfl)
theorem dX1_init_221 : decode cX1_init 221 = .ok (.putfield 91, 3) := dk_181 0 91 (dk_at dksX1_init_9 7 rfl rfl)
theorem dX1_init_224 : decode cX1_init 224 = .ok (.aload_n 0, 1) := dk_42 (dk_at dksX1_init_9 10 rfl rfl)
theorem dX1_init_225 : decode cX1_init 225 = .ok (.sipush 1681, 3) := dk_17 6 145 (dk_at dksX1_init_9 11 rfl rfl)
theorem dX1_init_228 : decode cX1_init 228 = .ok (.newarray .long, 2) := dk_188_11 (dk_at dksX1_init_9 14 rfl rfl)
theorem dX1_init_230 : decode cX1_init 230 = .ok (.putfield 94, 3) := dk_181 0 94 (dk_at dksX1_init_9 16 rfl rfl)
theorem dX1_init_233 : decode cX1_init 233 = .ok (.aload_n 0, 1) := dk_42 (dk_at dksX1_init_9 19 rfl rfl)
theorem dX1_init_234 : decode cX1_init 234 = .ok (.sipush 216, 3) := dk_17 0 216 (dk_at dksX1_init_9 20 rfl rfl)
theorem dX1_init_237 : decode cX1_init 237 = .ok (.newarray .long, 2) := dk_188_11 (dk_at dksX1_init_10 0 rfl rfl)
theorem dX1_init_239 : decode cX1_init 239 = .ok (.putfield 97, 3) := dk_181 0 97 (dk_at dksX1_init_10 2 rfl rfl)
theorem dX1_init_242 : decode cX1_init 242 = .ok (.aload_n 0, 1) := dk_42 (dk_at dksX1_init_10 5 rfl rfl)
theorem dX1_init_243 : decode cX1_init 243 = .ok (.sipush 216, 3) := dk_17 0 216 (dk_at dksX1_init_10 6 rfl rfl)
theorem dX1_init_246 : decode cX1_init 246 = .ok (.newarray .long, 2) := dk_188_11 (dk_at dksX1_init_10 9 rfl rfl)
theorem dX1_init_248 : decode cX1_init 248 = .ok (.putfield 100, 3) := dk_181 0 100 (dk_at dksX1_init_10 11 rfl rfl)
theorem dX1_init_251 : decode cX1_init 251 = .ok (.aload_n 0, 1) := dk_42 (dk_at dksX1_init_10 14 rfl rfl)
theorem dX1_init_252 : decode cX1_init 252 = .ok (.iconst 4, 1) := dk_7 (dk_at dksX1_init_10 15 rfl rfl)
theorem dX1_init_253 : decode cX1_init 253 = .ok (.newarray .long, 2) := dk_188_11 (dk_at dksX1_init_10 16 rfl rfl)
theorem dX1_init_255 : decode cX1_init 255 = .ok (.putfield 103, 3) := dk_181 0 103 (dk_at dksX1_init_10 18 rfl rfl)
theorem dX1_init_258 : decode cX1_init 258 = .ok (.aload_n 0, 1) := dk_42 (dk_at dksX1_init_10 21 rfl rfl)
theorem dX1_init_259 : decode cX1_init 259 = .ok (.lconst 1, 1) := dk_10 (dk_at dksX1_init_10 22 rfl rfl)
theorem dX1_init_260 : decode cX1_init 260 = .ok (.putfield 106, 3) := dk_181 0 106 (dk_at dksX1_init_11 0 rfl rfl)
theorem dX1_init_263 : decode cX1_init 263 = .ok (.aload_n 0, 1) := dk_42 (dk_at dksX1_init_11 3 rfl rfl)
theorem dX1_init_264 : decode cX1_init 264 = .ok (.iconst 3, 1) := dk_6 (dk_at dksX1_init_11 4 rfl rfl)
theorem dX1_init_265 : decode cX1_init 265 = .ok (.putfield 110, 3) := dk_181 0 110 (dk_at dksX1_init_11 5 rfl rfl)
theorem dX1_init_268 : decode cX1_init 268 = .ok (.iconst 0, 1) := dk_3 (dk_at dksX1_init_11 8 rfl rfl)
theorem dX1_init_269 : decode cX1_init 269 = .ok (.istore_n 1, 1) := dk_60 (dk_at dksX1_init_11 9 rfl rfl)
theorem dX1_init_270 : decode cX1_init 270 = .ok (.iload_n 1, 1) := dk_27 (dk_at dksX1_init_11 10 rfl rfl)
theorem dX1_init_271 : decode cX1_init 271 = .ok (.bipush 6, 2) := dk_16 6 (dk_at dksX1_init_11 11 rfl rfl)
theorem dX1_init_273 : decode cX1_init 273 = .ok (.if_icmp .ge 16, 3) := dk_162 0 16 (dk_at dksX1_init_11 13 rfl rfl)
theorem dX1_init_276 : decode cX1_init 276 = .ok (.aload_n 0, 1) := dk_42 (dk_at dksX1_init_11 16 rfl rfl)
theorem dX1_init_277 : decode cX1_init 277 = .ok (.getfield 13, 3) := dk_180 0 13 (dk_at dksX1_init_11 17 rfl rfl)
theorem dX1_init_280 : decode cX1_init 280 = .ok (.iload_n 1, 1) := dk_27 (dk_at dksX1_init_11 20 rfl rfl)
theorem dX1_init_281 : decode cX1_init 281 = .ok (.iconst (-1), 1) := dk_2 (dk_at dksX1_init_11 21 rfl rfl)
theorem dX1_init_282 : decode cX1_init 282 = .ok (.iastore, 1) := dk_79 (dk_at dksX1_init_11 22 rfl rfl)
theorem dX1_init_283 : decode cX1_init 283 = .ok (.iinc 1 1, 3) := dk_132 1 1 (dk_at dksX1_init_12 0 rfl rfl)
theorem dX1_init_286 : decode cX1_init 286 = .ok (.goto (-16), 3) := dk_167 255 240 (dk_at dksX1_init_12 3 rfl rfl)
theorem dX1_init_289 : decode cX1_init 289 = .ok (.iconst 0, 1) := dk_3 (dk_at dksX1_init_12 6 rfl rfl)
theorem dX1_init_290 : decode cX1_init 290 = .ok (.istore_n 1, 1) := dk_60 (dk_at dksX1_init_12 7 rfl rfl)
theorem dX1_init_291 : decode cX1_init 291 = .ok (.iload_n 1, 1) := dk_27 (dk_at dksX1_init_12 8 rfl rfl)
theorem dX1_init_292 : decode cX1_init 292 = .ok (.iconst 4, 1) := dk_7 (dk_at dksX1_init_12 9 rfl rfl)
theorem dX1_init_293 : decode cX1_init 293 = .ok (.if_icmp .ge 16, 3) := dk_162 0 16 (dk_at dksX1_init_12 10 rfl rfl)
theorem dX1_init_296 : decode cX1_init 296 = .ok (.aload_n 0, 1) := dk_42 (dk_at dksX1_init_12 13 rfl rfl)
theorem dX1_init_297 : decode cX1_init 297 = .ok (.getfield 22, 3) := dk_180 0 22 (dk_at dksX1_init_12 14 rfl rfl)
theorem dX1_init_300 : decode cX1_init 300 = .ok (.iload_n 1, 1) := dk_27 (dk_at dksX1_init_12 17 rfl rfl)
theorem dX1_init_301 : decode cX1_init 301 = .ok (.iconst (-1), 1) := dk_2 (dk_at dksX1_init_12 18 rfl rfl)
theorem dX1_init_302 : decode cX1_init 302 = .ok (.iastore, 1) := dk_79 (dk_at dksX1_init_12 19 rfl rfl)
theorem dX1_init_303 : decode cX1_init 303 = .ok (.iinc 1 1, 3) := dk_132 1 1 (dk_at dksX1_init_12 20 rfl rfl)
theorem dX1_init_306 : decode cX1_init 306 = .ok (.goto (-15), 3) := dk_167 255 241 (dk_at dksX1_init_13 0 rfl rfl)
theorem dX1_init_309 : decode cX1_init 309 = .ok (.iconst 0, 1) := dk_3 (dk_at dksX1_init_13 3 rfl rfl)
theorem dX1_init_310 : decode cX1_init 310 = .ok (.istore_n 1, 1) := dk_60 (dk_at dksX1_init_13 4 rfl rfl)
theorem dX1_init_311 : decode cX1_init 311 = .ok (.iload_n 1, 1) := dk_27 (dk_at dksX1_init_13 5 rfl rfl)
theorem dX1_init_312 : decode cX1_init 312 = .ok (.bipush 8, 2) := dk_16 8 (dk_at dksX1_init_13 6 rfl rfl)
theorem dX1_init_314 : decode cX1_init 314 = .ok (.if_icmp .ge 16, 3) := dk_162 0 16 (dk_at dksX1_init_13 8 rfl rfl)
theorem dX1_init_317 : decode cX1_init 317 = .ok (.aload_n 0, 1) := dk_42 (dk_at dksX1_init_13 11 rfl rfl)
theorem dX1_init_318 : decode cX1_init 318 = .ok (.getfield 29, 3) := dk_180 0 29 (dk_at dksX1_init_13 12 rfl rfl)
theorem dX1_init_321 : decode cX1_init 321 = .ok (.iload_n 1, 1) := dk_27 (dk_at dksX1_init_13 15 rfl rfl)
theorem dX1_init_322 : decode cX1_init 322 = .ok (.iconst (-1), 1) := dk_2 (dk_at dksX1_init_13 16 rfl rfl)
theorem dX1_init_323 : decode cX1_init 323 = .ok (.iastore, 1) := dk_79 (dk_at dksX1_init_13 17 rfl rfl)
theorem dX1_init_324 : decode cX1_init 324 = .ok (.iinc 1 1, 3) := dk_132 1 1 (dk_at dksX1_init_13 18 rfl rfl)
theorem dX1_init_327 : decode cX1_init 327 = .ok (.goto (-16), 3) := dk_167 255 240 (dk_at dksX1_init_13 21 rfl rfl)
theorem dX1_init_330 : decode cX1_init 330 = .ok (.return_, 1) := dk_177 (dk_at dksX1_init_14 0 rfl rfl)
abbrev cX1_finding : ByteArray := prog_8_method_5_code
def yX1_finding : MethodName := ⟨RX1, "finding", "()I"⟩
theorem dX1_finding_0 : decode cX1_finding 0 = .ok (.aload_n 0, 1) := by decide +kernel
theorem dX1_finding_1 : decode cX1_finding 1 = .ok (.getfield 114, 3) := by decide +kernel
theorem dX1_finding_4 : decode cX1_finding 4 = .ok (.ireturn, 1) := by decide +kernel
abbrev cX1_findings : ByteArray := prog_8_method_6_code
def yX1_findings : MethodName := ⟨RX1, "findings", "(I)I"⟩
def dkwX1_findings_0 : List UInt8 := [27, 4, 8, 184, 0, 117, 153, 0, 12, 42, 180, 0, 7, 27, 46, 167, 0, 4, 2, 172]
abbrev dktX1_findings_0 : List UInt8 := dkwX1_findings_0 ++ []
theorem dksX1_findings_0 : cX1_findings.data.toList.drop 0 = dktX1_findings_0 := by decide +kernel
theorem dX1_findings_0 : decode cX1_findings 0 = .ok (.iload_n 1, 1) := dk_27 (dk_at dksX1_findings_0 0 rfl rfl)
theorem dX1_findings_1 : decode cX1_findings 1 = .ok (.iconst 1, 1) := dk_4 (dk_at dksX1_findings_0 1 rfl rfl)
theorem dX1_findings_2 : decode cX1_findings 2 = .ok (.iconst 5, 1) := dk_8 (dk_at dksX1_findings_0 2 rfl rfl)
theorem dX1_findings_3 : decode cX1_findings 3 = .ok (.invokestatic 117, 3) := dk_184 0 117 (dk_at dksX1_findings_0 3 rfl rfl)
theorem dX1_findings_6 : decode cX1_findings 6 = .ok (.ifCond .eq 12, 3) := dk_153 0 12 (dk_at dksX1_findings_0 6 rfl rfl)
theorem dX1_findings_9 : decode cX1_findings 9 = .ok (.aload_n 0, 1) := dk_42 (dk_at dksX1_findings_0 9 rfl rfl)
theorem dX1_findings_10 : decode cX1_findings 10 = .ok (.getfield 7, 3) := dk_180 0 7 (dk_at dksX1_findings_0 10 rfl rfl)
theorem dX1_findings_13 : decode cX1_findings 13 = .ok (.iload_n 1, 1) := dk_27 (dk_at dksX1_findings_0 13 rfl rfl)
theorem dX1_findings_14 : decode cX1_findings 14 = .ok (.iaload, 1) := dk_46 (dk_at dksX1_findings_0 14 rfl rfl)
theorem dX1_findings_15 : decode cX1_findings 15 = .ok (.goto 4, 3) := dk_167 0 4 (dk_at dksX1_findings_0 15 rfl rfl)
theorem dX1_findings_18 : decode cX1_findings 18 = .ok (.iconst (-1), 1) := dk_2 (dk_at dksX1_findings_0 18 rfl rfl)
theorem dX1_findings_19 : decode cX1_findings 19 = .ok (.ireturn, 1) := dk_172 (dk_at dksX1_findings_0 19 rfl rfl)
abbrev cX1_in : ByteArray := prog_8_method_2_code
def yX1_in : MethodName := ⟨RX1, "in", "(III)Z"⟩
def dkwX1_in_0 : List UInt8 := [26, 27, 161, 0, 12, 26, 28, 163, 0, 7, 4, 167, 0, 4, 3, 172]
abbrev dktX1_in_0 : List UInt8 := dkwX1_in_0 ++ []
theorem dksX1_in_0 : cX1_in.data.toList.drop 0 = dktX1_in_0 := by decide +kernel
theorem dX1_in_0 : decode cX1_in 0 = .ok (.iload_n 0, 1) := dk_26 (dk_at dksX1_in_0 0 rfl rfl)
theorem dX1_in_1 : decode cX1_in 1 = .ok (.iload_n 1, 1) := dk_27 (dk_at dksX1_in_0 1 rfl rfl)
theorem dX1_in_2 : decode cX1_in 2 = .ok (.if_icmp .lt 12, 3) := dk_161 0 12 (dk_at dksX1_in_0 2 rfl rfl)
theorem dX1_in_5 : decode cX1_in 5 = .ok (.iload_n 0, 1) := dk_26 (dk_at dksX1_in_0 5 rfl rfl)
theorem dX1_in_6 : decode cX1_in 6 = .ok (.iload_n 2, 1) := dk_28 (dk_at dksX1_in_0 6 rfl rfl)
theorem dX1_in_7 : decode cX1_in 7 = .ok (.if_icmp .gt 7, 3) := dk_163 0 7 (dk_at dksX1_in_0 7 rfl rfl)
theorem dX1_in_10 : decode cX1_in 10 = .ok (.iconst 1, 1) := dk_4 (dk_at dksX1_in_0 10 rfl rfl)
theorem dX1_in_11 : decode cX1_in 11 = .ok (.goto 4, 3) := dk_167 0 4 (dk_at dksX1_in_0 11 rfl rfl)
theorem dX1_in_14 : decode cX1_in 14 = .ok (.iconst 0, 1) := dk_3 (dk_at dksX1_in_0 14 rfl rfl)
theorem dX1_in_15 : decode cX1_in 15 = .ok (.ireturn, 1) := dk_172 (dk_at dksX1_in_0 15 rfl rfl)
abbrev cX1_asked : ByteArray := prog_8_method_9_code
def yX1_asked : MethodName := ⟨RX1, "asked", "()I"⟩
theorem dX1_asked_0 : decode cX1_asked 0 = .ok (.aload_n 0, 1) := by decide +kernel
theorem dX1_asked_1 : decode cX1_asked 1 = .ok (.getfield 121, 3) := by decide +kernel
theorem dX1_asked_4 : decode cX1_asked 4 = .ok (.ireturn, 1) := by decide +kernel
abbrev cX1_many : ByteArray := prog_8_method_10_code
def yX1_many : MethodName := ⟨RX1, "many", "()J"⟩
theorem dX1_many_0 : decode cX1_many 0 = .ok (.aload_n 0, 1) := by decide +kernel
theorem dX1_many_1 : decode cX1_many 1 = .ok (.getfield 124, 3) := by decide +kernel
theorem dX1_many_4 : decode cX1_many 4 = .ok (.lreturn, 1) := by decide +kernel
abbrev cX1_upper : ByteArray := prog_8_method_12_code
def yX1_upper : MethodName := ⟨RX1, "upper", "()J"⟩
theorem dX1_upper_0 : decode cX1_upper 0 = .ok (.aload_n 0, 1) := by decide +kernel
theorem dX1_upper_1 : decode cX1_upper 1 = .ok (.getfield 127, 3) := by decide +kernel
theorem dX1_upper_4 : decode cX1_upper 4 = .ok (.lreturn, 1) := by decide +kernel
abbrev cX1_lower : ByteArray := prog_8_method_13_code
def yX1_lower : MethodName := ⟨RX1, "lower", "()J"⟩
theorem dX1_lower_0 : decode cX1_lower 0 = .ok (.aload_n 0, 1) := by decide +kernel
theorem dX1_lower_1 : decode cX1_lower 1 = .ok (.getfield 106, 3) := by decide +kernel
theorem dX1_lower_4 : decode cX1_lower 4 = .ok (.lreturn, 1) := by decide +kernel
abbrev cX1_row : ByteArray := prog_8_method_16_code
def yX1_row : MethodName := ⟨RX1, "row", "(II)I"⟩
def dkwX1_row_2 : List UInt8 := [29, 96, 3, 79, 132, 3, 1, 167, 255, 235, 28, 172]
abbrev dktX1_row_2 : List UInt8 := dkwX1_row_2 ++ []
def dkwX1_row_1 : List UInt8 := [172, 42, 180, 0, 13, 27, 28, 79, 3, 62, 29, 16, 40, 162, 0, 21, 42, 180, 0, 16, 16, 40, 27, 104]
abbrev dktX1_row_1 : List UInt8 := dkwX1_row_1 ++ dktX1_row_2
def dkwX1_row_0 : List UInt8 := [27, 184, 0, 130, 153, 0, 9, 28, 16, 40, 164, 0, 5, 2, 172, 28, 156, 0, 9, 42, 8, 182, 0, 134]
abbrev dktX1_row_0 : List UInt8 := dkwX1_row_0 ++ dktX1_row_1
theorem dksX1_row_0 : cX1_row.data.toList.drop 0 = dktX1_row_0 := by decide +kernel
theorem dksX1_row_1 : cX1_row.data.toList.drop 24 = dktX1_row_1 := dk_seg dksX1_row_0 24 rfl rfl
theorem dksX1_row_2 : cX1_row.data.toList.drop 48 = dktX1_row_2 := dk_seg dksX1_row_1 24 rfl rfl
theorem dX1_row_0 : decode cX1_row 0 = .ok (.iload_n 1, 1) := dk_27 (dk_at dksX1_row_0 0 rfl rfl)
theorem dX1_row_1 : decode cX1_row 1 = .ok (.invokestatic 130, 3) := dk_184 0 130 (dk_at dksX1_row_0 1 rfl rfl)
theorem dX1_row_4 : decode cX1_row 4 = .ok (.ifCond .eq 9, 3) := dk_153 0 9 (dk_at dksX1_row_0 4 rfl rfl)
theorem dX1_row_7 : decode cX1_row 7 = .ok (.iload_n 2, 1) := dk_28 (dk_at dksX1_row_0 7 rfl rfl)
theorem dX1_row_8 : decode cX1_row 8 = .ok (.bipush 40, 2) := dk_16 40 (dk_at dksX1_row_0 8 rfl rfl)
theorem dX1_row_10 : decode cX1_row 10 = .ok (.if_icmp .le 5, 3) := dk_164 0 5 (dk_at dksX1_row_0 10 rfl rfl)
theorem dX1_row_13 : decode cX1_row 13 = .ok (.iconst (-1), 1) := dk_2 (dk_at dksX1_row_0 13 rfl rfl)
theorem dX1_row_14 : decode cX1_row 14 = .ok (.ireturn, 1) := dk_172 (dk_at dksX1_row_0 14 rfl rfl)
theorem dX1_row_15 : decode cX1_row 15 = .ok (.iload_n 2, 1) := dk_28 (dk_at dksX1_row_0 15 rfl rfl)
theorem dX1_row_16 : decode cX1_row 16 = .ok (.ifCond .ge 9, 3) := dk_156 0 9 (dk_at dksX1_row_0 16 rfl rfl)
theorem dX1_row_19 : decode cX1_row 19 = .ok (.aload_n 0, 1) := dk_42 (dk_at dksX1_row_0 19 rfl rfl)
theorem dX1_row_20 : decode cX1_row 20 = .ok (.iconst 5, 1) := dk_8 (dk_at dksX1_row_0 20 rfl rfl)
theorem dX1_row_21 : decode cX1_row 21 = .ok (.invokevirtual 134, 3) := dk_182 0 134 (dk_at dksX1_row_0 21 rfl rfl)
theorem dX1_row_24 : decode cX1_row 24 = .ok (.ireturn, 1) := dk_172 (dk_at dksX1_row_1 0 rfl rfl)
theorem dX1_row_25 : decode cX1_row 25 = .ok (.aload_n 0, 1) := dk_42 (dk_at dksX1_row_1 1 rfl rfl)
theorem dX1_row_26 : decode cX1_row 26 = .ok (.getfield 13, 3) := dk_180 0 13 (dk_at dksX1_row_1 2 rfl rfl)
theorem dX1_row_29 : decode cX1_row 29 = .ok (.iload_n 1, 1) := dk_27 (dk_at dksX1_row_1 5 rfl rfl)
theorem dX1_row_30 : decode cX1_row 30 = .ok (.iload_n 2, 1) := dk_28 (dk_at dksX1_row_1 6 rfl rfl)
theorem dX1_row_31 : decode cX1_row 31 = .ok (.iastore, 1) := dk_79 (dk_at dksX1_row_1 7 rfl rfl)
theorem dX1_row_32 : decode cX1_row 32 = .ok (.iconst 0, 1) := dk_3 (dk_at dksX1_row_1 8 rfl rfl)
theorem dX1_row_33 : decode cX1_row 33 = .ok (.istore_n 3, 1) := dk_62 (dk_at dksX1_row_1 9 rfl rfl)
theorem dX1_row_34 : decode cX1_row 34 = .ok (.iload_n 3, 1) := dk_29 (dk_at dksX1_row_1 10 rfl rfl)
theorem dX1_row_35 : decode cX1_row 35 = .ok (.bipush 40, 2) := dk_16 40 (dk_at dksX1_row_1 11 rfl rfl)
theorem dX1_row_37 : decode cX1_row 37 = .ok (.if_icmp .ge 21, 3) := dk_162 0 21 (dk_at dksX1_row_1 13 rfl rfl)
theorem dX1_row_40 : decode cX1_row 40 = .ok (.aload_n 0, 1) := dk_42 (dk_at dksX1_row_1 16 rfl rfl)
theorem dX1_row_41 : decode cX1_row 41 = .ok (.getfield 16, 3) := dk_180 0 16 (dk_at dksX1_row_1 17 rfl rfl)
theorem dX1_row_44 : decode cX1_row 44 = .ok (.bipush 40, 2) := dk_16 40 (dk_at dksX1_row_1 20 rfl rfl)
theorem dX1_row_46 : decode cX1_row 46 = .ok (.iload_n 1, 1) := dk_27 (dk_at dksX1_row_1 22 rfl rfl)
theorem dX1_row_47 : decode cX1_row 47 = .ok (.imul, 1) := dk_104 (dk_at dksX1_row_1 23 rfl rfl)
theorem dX1_row_48 : decode cX1_row 48 = .ok (.iload_n 3, 1) := dk_29 (dk_at dksX1_row_2 0 rfl rfl)
theorem dX1_row_49 : decode cX1_row 49 = .ok (.iadd, 1) := dk_96 (dk_at dksX1_row_2 1 rfl rfl)
theorem dX1_row_50 : decode cX1_row 50 = .ok (.iconst 0, 1) := dk_3 (dk_at dksX1_row_2 2 rfl rfl)
theorem dX1_row_51 : decode cX1_row 51 = .ok (.iastore, 1) := dk_79 (dk_at dksX1_row_2 3 rfl rfl)
theorem dX1_row_52 : decode cX1_row 52 = .ok (.iinc 3 1, 3) := dk_132 3 1 (dk_at dksX1_row_2 4 rfl rfl)
theorem dX1_row_55 : decode cX1_row 55 = .ok (.goto (-21), 3) := dk_167 255 235 (dk_at dksX1_row_2 7 rfl rfl)
theorem dX1_row_58 : decode cX1_row 58 = .ok (.iload_n 2, 1) := dk_28 (dk_at dksX1_row_2 10 rfl rfl)
theorem dX1_row_59 : decode cX1_row 59 = .ok (.ireturn, 1) := dk_172 (dk_at dksX1_row_2 11 rfl rfl)
abbrev cX1_isRow : ByteArray := prog_8_method_14_code
def yX1_isRow : MethodName := ⟨RX1, "isRow", "(I)Z"⟩
def dkwX1_isRow_0 : List UInt8 := [26, 3, 8, 184, 0, 117, 172]
abbrev dktX1_isRow_0 : List UInt8 := dkwX1_isRow_0 ++ []
theorem dksX1_isRow_0 : cX1_isRow.data.toList.drop 0 = dktX1_isRow_0 := by decide +kernel
theorem dX1_isRow_0 : decode cX1_isRow 0 = .ok (.iload_n 0, 1) := dk_26 (dk_at dksX1_isRow_0 0 rfl rfl)
theorem dX1_isRow_1 : decode cX1_isRow 1 = .ok (.iconst 0, 1) := dk_3 (dk_at dksX1_isRow_0 1 rfl rfl)
theorem dX1_isRow_2 : decode cX1_isRow 2 = .ok (.iconst 5, 1) := dk_8 (dk_at dksX1_isRow_0 2 rfl rfl)
theorem dX1_isRow_3 : decode cX1_isRow 3 = .ok (.invokestatic 117, 3) := dk_184 0 117 (dk_at dksX1_isRow_0 3 rfl rfl)
theorem dX1_isRow_6 : decode cX1_isRow 6 = .ok (.ireturn, 1) := dk_172 (dk_at dksX1_isRow_0 6 rfl rfl)
abbrev cX1_meets : ByteArray := prog_8_method_4_code
def yX1_meets : MethodName := ⟨RX1, "meets", "(I)I"⟩
def dkwX1_meets_0 : List UInt8 := [42, 27, 181, 0, 114, 42, 180, 0, 7, 27, 92, 46, 4, 96, 79, 16, 253, 172]
abbrev dktX1_meets_0 : List UInt8 := dkwX1_meets_0 ++ []
theorem dksX1_meets_0 : cX1_meets.data.toList.drop 0 = dktX1_meets_0 := by decide +kernel
theorem dX1_meets_0 : decode cX1_meets 0 = .ok (.aload_n 0, 1) := dk_42 (dk_at dksX1_meets_0 0 rfl rfl)
theorem dX1_meets_1 : decode cX1_meets 1 = .ok (.iload_n 1, 1) := dk_27 (dk_at dksX1_meets_0 1 rfl rfl)
theorem dX1_meets_2 : decode cX1_meets 2 = .ok (.putfield 114, 3) := dk_181 0 114 (dk_at dksX1_meets_0 2 rfl rfl)
theorem dX1_meets_5 : decode cX1_meets 5 = .ok (.aload_n 0, 1) := dk_42 (dk_at dksX1_meets_0 5 rfl rfl)
theorem dX1_meets_6 : decode cX1_meets 6 = .ok (.getfield 7, 3) := dk_180 0 7 (dk_at dksX1_meets_0 6 rfl rfl)
theorem dX1_meets_9 : decode cX1_meets 9 = .ok (.iload_n 1, 1) := dk_27 (dk_at dksX1_meets_0 9 rfl rfl)
theorem dX1_meets_10 : decode cX1_meets 10 = .ok (.dup2, 1) := dk_92 (dk_at dksX1_meets_0 10 rfl rfl)
theorem dX1_meets_11 : decode cX1_meets 11 = .ok (.iaload, 1) := dk_46 (dk_at dksX1_meets_0 11 rfl rfl)
theorem dX1_meets_12 : decode cX1_meets 12 = .ok (.iconst 1, 1) := dk_4 (dk_at dksX1_meets_0 12 rfl rfl)
theorem dX1_meets_13 : decode cX1_meets 13 = .ok (.iadd, 1) := dk_96 (dk_at dksX1_meets_0 13 rfl rfl)
theorem dX1_meets_14 : decode cX1_meets 14 = .ok (.iastore, 1) := dk_79 (dk_at dksX1_meets_0 14 rfl rfl)
theorem dX1_meets_15 : decode cX1_meets 15 = .ok (.bipush (-3), 2) := dk_16 253 (dk_at dksX1_meets_0 15 rfl rfl)
theorem dX1_meets_17 : decode cX1_meets 17 = .ok (.ireturn, 1) := dk_172 (dk_at dksX1_meets_0 17 rfl rfl)
abbrev cX1_lay : ByteArray := prog_8_method_17_code
def yX1_lay : MethodName := ⟨RX1, "lay", "(III)I"⟩
def dkwX1_lay_3 : List UInt8 := [182, 0, 142, 172]
abbrev dktX1_lay_3 : List UInt8 := dkwX1_lay_3 ++ []
def dkwX1_lay_2 : List UInt8 := [28, 182, 0, 138, 54, 4, 42, 180, 0, 16, 16, 40, 27, 104, 28, 96, 29, 79, 42, 21, 4, 4]
abbrev dktX1_lay_2 : List UInt8 := dkwX1_lay_2 ++ dktX1_lay_3
def dkwX1_lay_1 : List UInt8 := [28, 3, 42, 180, 0, 13, 27, 46, 4, 100, 184, 0, 117, 154, 0, 9, 42, 5, 182, 0, 134, 172, 42, 27]
abbrev dktX1_lay_1 : List UInt8 := dkwX1_lay_1 ++ dktX1_lay_2
def dkwX1_lay_0 : List UInt8 := [27, 184, 0, 130, 154, 0, 5, 2, 172, 42, 180, 0, 13, 27, 46, 156, 0, 9, 42, 4, 182, 0, 134, 172]
abbrev dktX1_lay_0 : List UInt8 := dkwX1_lay_0 ++ dktX1_lay_1
theorem dksX1_lay_0 : cX1_lay.data.toList.drop 0 = dktX1_lay_0 := by decide +kernel
theorem dksX1_lay_1 : cX1_lay.data.toList.drop 24 = dktX1_lay_1 := dk_seg dksX1_lay_0 24 rfl rfl
theorem dksX1_lay_2 : cX1_lay.data.toList.drop 48 = dktX1_lay_2 := dk_seg dksX1_lay_1 24 rfl rfl
theorem dksX1_lay_3 : cX1_lay.data.toList.drop 70 = dktX1_lay_3 := dk_seg dksX1_lay_2 22 rfl rfl
theorem dX1_lay_0 : decode cX1_lay 0 = .ok (.iload_n 1, 1) := dk_27 (dk_at dksX1_lay_0 0 rfl rfl)
theorem dX1_lay_1 : decode cX1_lay 1 = .ok (.invokestatic 130, 3) := dk_184 0 130 (dk_at dksX1_lay_0 1 rfl rfl)
theorem dX1_lay_4 : decode cX1_lay 4 = .ok (.ifCond .ne 5, 3) := dk_154 0 5 (dk_at dksX1_lay_0 4 rfl rfl)
theorem dX1_lay_7 : decode cX1_lay 7 = .ok (.iconst (-1), 1) := dk_2 (dk_at dksX1_lay_0 7 rfl rfl)
theorem dX1_lay_8 : decode cX1_lay 8 = .ok (.ireturn, 1) := dk_172 (dk_at dksX1_lay_0 8 rfl rfl)
theorem dX1_lay_9 : decode cX1_lay 9 = .ok (.aload_n 0, 1) := dk_42 (dk_at dksX1_lay_0 9 rfl rfl)
theorem dX1_lay_10 : decode cX1_lay 10 = .ok (.getfield 13, 3) := dk_180 0 13 (dk_at dksX1_lay_0 10 rfl rfl)
theorem dX1_lay_13 : decode cX1_lay 13 = .ok (.iload_n 1, 1) := dk_27 (dk_at dksX1_lay_0 13 rfl rfl)
theorem dX1_lay_14 : decode cX1_lay 14 = .ok (.iaload, 1) := dk_46 (dk_at dksX1_lay_0 14 rfl rfl)
theorem dX1_lay_15 : decode cX1_lay 15 = .ok (.ifCond .ge 9, 3) := dk_156 0 9 (dk_at dksX1_lay_0 15 rfl rfl)
theorem dX1_lay_18 : decode cX1_lay 18 = .ok (.aload_n 0, 1) := dk_42 (dk_at dksX1_lay_0 18 rfl rfl)
theorem dX1_lay_19 : decode cX1_lay 19 = .ok (.iconst 1, 1) := dk_4 (dk_at dksX1_lay_0 19 rfl rfl)
theorem dX1_lay_20 : decode cX1_lay 20 = .ok (.invokevirtual 134, 3) := dk_182 0 134 (dk_at dksX1_lay_0 20 rfl rfl)
theorem dX1_lay_23 : decode cX1_lay 23 = .ok (.ireturn, 1) := dk_172 (dk_at dksX1_lay_0 23 rfl rfl)
theorem dX1_lay_24 : decode cX1_lay 24 = .ok (.iload_n 2, 1) := dk_28 (dk_at dksX1_lay_1 0 rfl rfl)
theorem dX1_lay_25 : decode cX1_lay 25 = .ok (.iconst 0, 1) := dk_3 (dk_at dksX1_lay_1 1 rfl rfl)
theorem dX1_lay_26 : decode cX1_lay 26 = .ok (.aload_n 0, 1) := dk_42 (dk_at dksX1_lay_1 2 rfl rfl)
theorem dX1_lay_27 : decode cX1_lay 27 = .ok (.getfield 13, 3) := dk_180 0 13 (dk_at dksX1_lay_1 3 rfl rfl)
theorem dX1_lay_30 : decode cX1_lay 30 = .ok (.iload_n 1, 1) := dk_27 (dk_at dksX1_lay_1 6 rfl rfl)
theorem dX1_lay_31 : decode cX1_lay 31 = .ok (.iaload, 1) := dk_46 (dk_at dksX1_lay_1 7 rfl rfl)
theorem dX1_lay_32 : decode cX1_lay 32 = .ok (.iconst 1, 1) := dk_4 (dk_at dksX1_lay_1 8 rfl rfl)
theorem dX1_lay_33 : decode cX1_lay 33 = .ok (.isub, 1) := dk_100 (dk_at dksX1_lay_1 9 rfl rfl)
theorem dX1_lay_34 : decode cX1_lay 34 = .ok (.invokestatic 117, 3) := dk_184 0 117 (dk_at dksX1_lay_1 10 rfl rfl)
theorem dX1_lay_37 : decode cX1_lay 37 = .ok (.ifCond .ne 9, 3) := dk_154 0 9 (dk_at dksX1_lay_1 13 rfl rfl)
theorem dX1_lay_40 : decode cX1_lay 40 = .ok (.aload_n 0, 1) := dk_42 (dk_at dksX1_lay_1 16 rfl rfl)
theorem dX1_lay_41 : decode cX1_lay 41 = .ok (.iconst 2, 1) := dk_5 (dk_at dksX1_lay_1 17 rfl rfl)
theorem dX1_lay_42 : decode cX1_lay 42 = .ok (.invokevirtual 134, 3) := dk_182 0 134 (dk_at dksX1_lay_1 18 rfl rfl)
theorem dX1_lay_45 : decode cX1_lay 45 = .ok (.ireturn, 1) := dk_172 (dk_at dksX1_lay_1 21 rfl rfl)
theorem dX1_lay_46 : decode cX1_lay 46 = .ok (.aload_n 0, 1) := dk_42 (dk_at dksX1_lay_1 22 rfl rfl)
theorem dX1_lay_47 : decode cX1_lay 47 = .ok (.iload_n 1, 1) := dk_27 (dk_at dksX1_lay_1 23 rfl rfl)
theorem dX1_lay_48 : decode cX1_lay 48 = .ok (.iload_n 2, 1) := dk_28 (dk_at dksX1_lay_2 0 rfl rfl)
theorem dX1_lay_49 : decode cX1_lay 49 = .ok (.invokevirtual 138, 3) := dk_182 0 138 (dk_at dksX1_lay_2 1 rfl rfl)
theorem dX1_lay_52 : decode cX1_lay 52 = .ok (.istore 4, 2) := dk_54 4 (dk_at dksX1_lay_2 4 rfl rfl)
theorem dX1_lay_54 : decode cX1_lay 54 = .ok (.aload_n 0, 1) := dk_42 (dk_at dksX1_lay_2 6 rfl rfl)
theorem dX1_lay_55 : decode cX1_lay 55 = .ok (.getfield 16, 3) := dk_180 0 16 (dk_at dksX1_lay_2 7 rfl rfl)
theorem dX1_lay_58 : decode cX1_lay 58 = .ok (.bipush 40, 2) := dk_16 40 (dk_at dksX1_lay_2 10 rfl rfl)
theorem dX1_lay_60 : decode cX1_lay 60 = .ok (.iload_n 1, 1) := dk_27 (dk_at dksX1_lay_2 12 rfl rfl)
theorem dX1_lay_61 : decode cX1_lay 61 = .ok (.imul, 1) := dk_104 (dk_at dksX1_lay_2 13 rfl rfl)
theorem dX1_lay_62 : decode cX1_lay 62 = .ok (.iload_n 2, 1) := dk_28 (dk_at dksX1_lay_2 14 rfl rfl)
theorem dX1_lay_63 : decode cX1_lay 63 = .ok (.iadd, 1) := dk_96 (dk_at dksX1_lay_2 15 rfl rfl)
theorem dX1_lay_64 : decode cX1_lay 64 = .ok (.iload_n 3, 1) := dk_29 (dk_at dksX1_lay_2 16 rfl rfl)
theorem dX1_lay_65 : decode cX1_lay 65 = .ok (.iastore, 1) := dk_79 (dk_at dksX1_lay_2 17 rfl rfl)
theorem dX1_lay_66 : decode cX1_lay 66 = .ok (.aload_n 0, 1) := dk_42 (dk_at dksX1_lay_2 18 rfl rfl)
theorem dX1_lay_67 : decode cX1_lay 67 = .ok (.iload 4, 2) := dk_21 4 (dk_at dksX1_lay_2 19 rfl rfl)
theorem dX1_lay_69 : decode cX1_lay 69 = .ok (.iconst 1, 1) := dk_4 (dk_at dksX1_lay_2 21 rfl rfl)
theorem dX1_lay_70 : decode cX1_lay 70 = .ok (.invokevirtual 142, 3) := dk_182 0 142 (dk_at dksX1_lay_3 0 rfl rfl)
theorem dX1_lay_73 : decode cX1_lay 73 = .ok (.ireturn, 1) := dk_172 (dk_at dksX1_lay_3 3 rfl rfl)
abbrev cX1_rowAt : ByteArray := prog_8_method_15_code
def yX1_rowAt : MethodName := ⟨RX1, "rowAt", "(II)I"⟩
def dkwX1_rowAt_0 : List UInt8 := [42, 180, 0, 16, 16, 40, 27, 104, 28, 96, 46, 172]
abbrev dktX1_rowAt_0 : List UInt8 := dkwX1_rowAt_0 ++ []
theorem dksX1_rowAt_0 : cX1_rowAt.data.toList.drop 0 = dktX1_rowAt_0 := by decide +kernel
theorem dX1_rowAt_0 : decode cX1_rowAt 0 = .ok (.aload_n 0, 1) := dk_42 (dk_at dksX1_rowAt_0 0 rfl rfl)
theorem dX1_rowAt_1 : decode cX1_rowAt 1 = .ok (.getfield 16, 3) := dk_180 0 16 (dk_at dksX1_rowAt_0 1 rfl rfl)
theorem dX1_rowAt_4 : decode cX1_rowAt 4 = .ok (.bipush 40, 2) := dk_16 40 (dk_at dksX1_rowAt_0 4 rfl rfl)
theorem dX1_rowAt_6 : decode cX1_rowAt 6 = .ok (.iload_n 1, 1) := dk_27 (dk_at dksX1_rowAt_0 6 rfl rfl)
theorem dX1_rowAt_7 : decode cX1_rowAt 7 = .ok (.imul, 1) := dk_104 (dk_at dksX1_rowAt_0 7 rfl rfl)
theorem dX1_rowAt_8 : decode cX1_rowAt 8 = .ok (.iload_n 2, 1) := dk_28 (dk_at dksX1_rowAt_0 8 rfl rfl)
theorem dX1_rowAt_9 : decode cX1_rowAt 9 = .ok (.iadd, 1) := dk_96 (dk_at dksX1_rowAt_0 9 rfl rfl)
theorem dX1_rowAt_10 : decode cX1_rowAt 10 = .ok (.iaload, 1) := dk_46 (dk_at dksX1_rowAt_0 10 rfl rfl)
theorem dX1_rowAt_11 : decode cX1_rowAt 11 = .ok (.ireturn, 1) := dk_172 (dk_at dksX1_rowAt_0 11 rfl rfl)
abbrev cX1_tells : ByteArray := prog_8_method_7_code
def yX1_tells : MethodName := ⟨RX1, "tells", "(II)I"⟩
def dkwX1_tells_0 : List UInt8 := [42, 27, 181, 0, 121, 28, 172]
abbrev dktX1_tells_0 : List UInt8 := dkwX1_tells_0 ++ []
theorem dksX1_tells_0 : cX1_tells.data.toList.drop 0 = dktX1_tells_0 := by decide +kernel
theorem dX1_tells_0 : decode cX1_tells 0 = .ok (.aload_n 0, 1) := dk_42 (dk_at dksX1_tells_0 0 rfl rfl)
theorem dX1_tells_1 : decode cX1_tells 1 = .ok (.iload_n 1, 1) := dk_27 (dk_at dksX1_tells_0 1 rfl rfl)
theorem dX1_tells_2 : decode cX1_tells 2 = .ok (.putfield 121, 3) := dk_181 0 121 (dk_at dksX1_tells_0 2 rfl rfl)
theorem dX1_tells_5 : decode cX1_tells 5 = .ok (.iload_n 2, 1) := dk_28 (dk_at dksX1_tells_0 5 rfl rfl)
theorem dX1_tells_6 : decode cX1_tells 6 = .ok (.ireturn, 1) := dk_172 (dk_at dksX1_tells_0 6 rfl rfl)
abbrev cX1_at : ByteArray := prog_8_method_18_code
def yX1_at : MethodName := ⟨RX1, "at", "(II)I"⟩
def dkwX1_at_2 : List UInt8 := [182, 0, 142, 167, 0, 8, 42, 5, 182, 0, 134, 172]
abbrev dktX1_at_2 : List UInt8 := dkwX1_at_2 ++ []
def dkwX1_at_1 : List UInt8 := [28, 3, 42, 180, 0, 13, 27, 46, 4, 100, 184, 0, 117, 153, 0, 17, 42, 42, 27, 28, 182, 0, 138, 4]
abbrev dktX1_at_1 : List UInt8 := dkwX1_at_1 ++ dktX1_at_2
def dkwX1_at_0 : List UInt8 := [27, 184, 0, 130, 154, 0, 5, 2, 172, 42, 180, 0, 13, 27, 46, 156, 0, 9, 42, 4, 182, 0, 134, 172]
abbrev dktX1_at_0 : List UInt8 := dkwX1_at_0 ++ dktX1_at_1
theorem dksX1_at_0 : cX1_at.data.toList.drop 0 = dktX1_at_0 := by decide +kernel
theorem dksX1_at_1 : cX1_at.data.toList.drop 24 = dktX1_at_1 := dk_seg dksX1_at_0 24 rfl rfl
theorem dksX1_at_2 : cX1_at.data.toList.drop 48 = dktX1_at_2 := dk_seg dksX1_at_1 24 rfl rfl
theorem dX1_at_0 : decode cX1_at 0 = .ok (.iload_n 1, 1) := dk_27 (dk_at dksX1_at_0 0 rfl rfl)
theorem dX1_at_1 : decode cX1_at 1 = .ok (.invokestatic 130, 3) := dk_184 0 130 (dk_at dksX1_at_0 1 rfl rfl)
theorem dX1_at_4 : decode cX1_at 4 = .ok (.ifCond .ne 5, 3) := dk_154 0 5 (dk_at dksX1_at_0 4 rfl rfl)
theorem dX1_at_7 : decode cX1_at 7 = .ok (.iconst (-1), 1) := dk_2 (dk_at dksX1_at_0 7 rfl rfl)
theorem dX1_at_8 : decode cX1_at 8 = .ok (.ireturn, 1) := dk_172 (dk_at dksX1_at_0 8 rfl rfl)
theorem dX1_at_9 : decode cX1_at 9 = .ok (.aload_n 0, 1) := dk_42 (dk_at dksX1_at_0 9 rfl rfl)
theorem dX1_at_10 : decode cX1_at 10 = .ok (.getfield 13, 3) := dk_180 0 13 (dk_at dksX1_at_0 10 rfl rfl)
theorem dX1_at_13 : decode cX1_at 13 = .ok (.iload_n 1, 1) := dk_27 (dk_at dksX1_at_0 13 rfl rfl)
theorem dX1_at_14 : decode cX1_at 14 = .ok (.iaload, 1) := dk_46 (dk_at dksX1_at_0 14 rfl rfl)
theorem dX1_at_15 : decode cX1_at 15 = .ok (.ifCond .ge 9, 3) := dk_156 0 9 (dk_at dksX1_at_0 15 rfl rfl)
theorem dX1_at_18 : decode cX1_at 18 = .ok (.aload_n 0, 1) := dk_42 (dk_at dksX1_at_0 18 rfl rfl)
theorem dX1_at_19 : decode cX1_at 19 = .ok (.iconst 1, 1) := dk_4 (dk_at dksX1_at_0 19 rfl rfl)
theorem dX1_at_20 : decode cX1_at 20 = .ok (.invokevirtual 134, 3) := dk_182 0 134 (dk_at dksX1_at_0 20 rfl rfl)
theorem dX1_at_23 : decode cX1_at 23 = .ok (.ireturn, 1) := dk_172 (dk_at dksX1_at_0 23 rfl rfl)
theorem dX1_at_24 : decode cX1_at 24 = .ok (.iload_n 2, 1) := dk_28 (dk_at dksX1_at_1 0 rfl rfl)
theorem dX1_at_25 : decode cX1_at 25 = .ok (.iconst 0, 1) := dk_3 (dk_at dksX1_at_1 1 rfl rfl)
theorem dX1_at_26 : decode cX1_at 26 = .ok (.aload_n 0, 1) := dk_42 (dk_at dksX1_at_1 2 rfl rfl)
theorem dX1_at_27 : decode cX1_at 27 = .ok (.getfield 13, 3) := dk_180 0 13 (dk_at dksX1_at_1 3 rfl rfl)
theorem dX1_at_30 : decode cX1_at 30 = .ok (.iload_n 1, 1) := dk_27 (dk_at dksX1_at_1 6 rfl rfl)
theorem dX1_at_31 : decode cX1_at 31 = .ok (.iaload, 1) := dk_46 (dk_at dksX1_at_1 7 rfl rfl)
theorem dX1_at_32 : decode cX1_at 32 = .ok (.iconst 1, 1) := dk_4 (dk_at dksX1_at_1 8 rfl rfl)
theorem dX1_at_33 : decode cX1_at 33 = .ok (.isub, 1) := dk_100 (dk_at dksX1_at_1 9 rfl rfl)
theorem dX1_at_34 : decode cX1_at 34 = .ok (.invokestatic 117, 3) := dk_184 0 117 (dk_at dksX1_at_1 10 rfl rfl)
theorem dX1_at_37 : decode cX1_at 37 = .ok (.ifCond .eq 17, 3) := dk_153 0 17 (dk_at dksX1_at_1 13 rfl rfl)
theorem dX1_at_40 : decode cX1_at 40 = .ok (.aload_n 0, 1) := dk_42 (dk_at dksX1_at_1 16 rfl rfl)
theorem dX1_at_41 : decode cX1_at 41 = .ok (.aload_n 0, 1) := dk_42 (dk_at dksX1_at_1 17 rfl rfl)
theorem dX1_at_42 : decode cX1_at 42 = .ok (.iload_n 1, 1) := dk_27 (dk_at dksX1_at_1 18 rfl rfl)
theorem dX1_at_43 : decode cX1_at 43 = .ok (.iload_n 2, 1) := dk_28 (dk_at dksX1_at_1 19 rfl rfl)
theorem dX1_at_44 : decode cX1_at 44 = .ok (.invokevirtual 138, 3) := dk_182 0 138 (dk_at dksX1_at_1 20 rfl rfl)
theorem dX1_at_47 : decode cX1_at 47 = .ok (.iconst 1, 1) := dk_4 (dk_at dksX1_at_1 23 rfl rfl)
theorem dX1_at_48 : decode cX1_at 48 = .ok (.invokevirtual 142, 3) := dk_182 0 142 (dk_at dksX1_at_2 0 rfl rfl)
theorem dX1_at_51 : decode cX1_at 51 = .ok (.goto 8, 3) := dk_167 0 8 (dk_at dksX1_at_2 3 rfl rfl)
theorem dX1_at_54 : decode cX1_at 54 = .ok (.aload_n 0, 1) := dk_42 (dk_at dksX1_at_2 6 rfl rfl)
theorem dX1_at_55 : decode cX1_at 55 = .ok (.iconst 2, 1) := dk_5 (dk_at dksX1_at_2 7 rfl rfl)
theorem dX1_at_56 : decode cX1_at 56 = .ok (.invokevirtual 134, 3) := dk_182 0 134 (dk_at dksX1_at_2 8 rfl rfl)
theorem dX1_at_59 : decode cX1_at 59 = .ok (.ireturn, 1) := dk_172 (dk_at dksX1_at_2 11 rfl rfl)
abbrev cX1_tear : ByteArray := prog_8_method_19_code
def yX1_tear : MethodName := ⟨RX1, "tear", "(I)I"⟩
def dkwX1_tear_1 : List UInt8 := [42, 180, 0, 13, 27, 2, 79, 4, 172]
abbrev dktX1_tear_1 : List UInt8 := dkwX1_tear_1 ++ []
def dkwX1_tear_0 : List UInt8 := [27, 184, 0, 130, 154, 0, 5, 2, 172, 42, 180, 0, 13, 27, 46, 156, 0, 9, 42, 4, 182, 0, 134, 172]
abbrev dktX1_tear_0 : List UInt8 := dkwX1_tear_0 ++ dktX1_tear_1
theorem dksX1_tear_0 : cX1_tear.data.toList.drop 0 = dktX1_tear_0 := by decide +kernel
theorem dksX1_tear_1 : cX1_tear.data.toList.drop 24 = dktX1_tear_1 := dk_seg dksX1_tear_0 24 rfl rfl
theorem dX1_tear_0 : decode cX1_tear 0 = .ok (.iload_n 1, 1) := dk_27 (dk_at dksX1_tear_0 0 rfl rfl)
theorem dX1_tear_1 : decode cX1_tear 1 = .ok (.invokestatic 130, 3) := dk_184 0 130 (dk_at dksX1_tear_0 1 rfl rfl)
theorem dX1_tear_4 : decode cX1_tear 4 = .ok (.ifCond .ne 5, 3) := dk_154 0 5 (dk_at dksX1_tear_0 4 rfl rfl)
theorem dX1_tear_7 : decode cX1_tear 7 = .ok (.iconst (-1), 1) := dk_2 (dk_at dksX1_tear_0 7 rfl rfl)
theorem dX1_tear_8 : decode cX1_tear 8 = .ok (.ireturn, 1) := dk_172 (dk_at dksX1_tear_0 8 rfl rfl)
theorem dX1_tear_9 : decode cX1_tear 9 = .ok (.aload_n 0, 1) := dk_42 (dk_at dksX1_tear_0 9 rfl rfl)
theorem dX1_tear_10 : decode cX1_tear 10 = .ok (.getfield 13, 3) := dk_180 0 13 (dk_at dksX1_tear_0 10 rfl rfl)
theorem dX1_tear_13 : decode cX1_tear 13 = .ok (.iload_n 1, 1) := dk_27 (dk_at dksX1_tear_0 13 rfl rfl)
theorem dX1_tear_14 : decode cX1_tear 14 = .ok (.iaload, 1) := dk_46 (dk_at dksX1_tear_0 14 rfl rfl)
theorem dX1_tear_15 : decode cX1_tear 15 = .ok (.ifCond .ge 9, 3) := dk_156 0 9 (dk_at dksX1_tear_0 15 rfl rfl)
theorem dX1_tear_18 : decode cX1_tear 18 = .ok (.aload_n 0, 1) := dk_42 (dk_at dksX1_tear_0 18 rfl rfl)
theorem dX1_tear_19 : decode cX1_tear 19 = .ok (.iconst 1, 1) := dk_4 (dk_at dksX1_tear_0 19 rfl rfl)
theorem dX1_tear_20 : decode cX1_tear 20 = .ok (.invokevirtual 134, 3) := dk_182 0 134 (dk_at dksX1_tear_0 20 rfl rfl)
theorem dX1_tear_23 : decode cX1_tear 23 = .ok (.ireturn, 1) := dk_172 (dk_at dksX1_tear_0 23 rfl rfl)
theorem dX1_tear_24 : decode cX1_tear 24 = .ok (.aload_n 0, 1) := dk_42 (dk_at dksX1_tear_1 0 rfl rfl)
theorem dX1_tear_25 : decode cX1_tear 25 = .ok (.getfield 13, 3) := dk_180 0 13 (dk_at dksX1_tear_1 1 rfl rfl)
theorem dX1_tear_28 : decode cX1_tear 28 = .ok (.iload_n 1, 1) := dk_27 (dk_at dksX1_tear_1 4 rfl rfl)
theorem dX1_tear_29 : decode cX1_tear 29 = .ok (.iconst (-1), 1) := dk_2 (dk_at dksX1_tear_1 5 rfl rfl)
theorem dX1_tear_30 : decode cX1_tear 30 = .ok (.iastore, 1) := dk_79 (dk_at dksX1_tear_1 6 rfl rfl)
theorem dX1_tear_31 : decode cX1_tear 31 = .ok (.iconst 1, 1) := dk_4 (dk_at dksX1_tear_1 7 rfl rfl)
theorem dX1_tear_32 : decode cX1_tear 32 = .ok (.ireturn, 1) := dk_172 (dk_at dksX1_tear_1 8 rfl rfl)
abbrev cX1_copy : ByteArray := prog_8_method_20_code
def yX1_copy : MethodName := ⟨RX1, "copy", "(IIIII)I"⟩
def dkwX1_copy_7 : List UInt8 := [132, 6, 1, 167, 255, 224, 4, 172]
abbrev dktX1_copy_7 : List UInt8 := dkwX1_copy_7 ++ []
def dkwX1_copy_6 : List UInt8 := [42, 180, 0, 16, 16, 40, 29, 104, 21, 4, 96, 21, 6, 96, 42, 180, 0, 19, 21, 6, 46, 79]
abbrev dktX1_copy_6 : List UInt8 := dkwX1_copy_6 ++ dktX1_copy_7
def dkwX1_copy_5 : List UInt8 := [28, 21, 6, 96, 182, 0, 138, 79, 132, 6, 1, 167, 255, 230, 3, 54, 6, 21, 6, 21, 5, 162, 0, 31]
abbrev dktX1_copy_5 : List UInt8 := dkwX1_copy_5 ++ dktX1_copy_6
def dkwX1_copy_4 : List UInt8 := [42, 5, 182, 0, 134, 172, 3, 54, 6, 21, 6, 21, 5, 162, 0, 25, 42, 180, 0, 19, 21, 6, 42, 27]
abbrev dktX1_copy_4 : List UInt8 := dkwX1_copy_4 ++ dktX1_copy_5
def dkwX1_copy_3 : List UInt8 := [46, 133, 148, 157, 0, 21, 21, 4, 133, 21, 5, 133, 97, 42, 180, 0, 13, 29, 46, 133, 148, 158, 0, 9]
abbrev dktX1_copy_3 : List UInt8 := dkwX1_copy_3 ++ dktX1_copy_4
def dkwX1_copy_2 : List UInt8 := [182, 0, 134, 172, 28, 155, 0, 43, 21, 4, 155, 0, 38, 28, 133, 21, 5, 133, 97, 42, 180, 0, 13, 27]
abbrev dktX1_copy_2 : List UInt8 := dkwX1_copy_2 ++ dktX1_copy_3
def dkwX1_copy_1 : List UInt8 := [182, 0, 134, 172, 42, 180, 0, 13, 27, 46, 155, 0, 12, 42, 180, 0, 13, 29, 46, 156, 0, 9, 42, 4]
abbrev dktX1_copy_1 : List UInt8 := dkwX1_copy_1 ++ dktX1_copy_2
def dkwX1_copy_0 : List UInt8 := [27, 184, 0, 130, 153, 0, 10, 29, 184, 0, 130, 154, 0, 5, 2, 172, 21, 5, 156, 0, 9, 42, 8]
abbrev dktX1_copy_0 : List UInt8 := dkwX1_copy_0 ++ dktX1_copy_1
theorem dksX1_copy_0 : cX1_copy.data.toList.drop 0 = dktX1_copy_0 := by decide +kernel
theorem dksX1_copy_1 : cX1_copy.data.toList.drop 23 = dktX1_copy_1 := dk_seg dksX1_copy_0 23 rfl rfl
theorem dksX1_copy_2 : cX1_copy.data.toList.drop 47 = dktX1_copy_2 := dk_seg dksX1_copy_1 24 rfl rfl
theorem dksX1_copy_3 : cX1_copy.data.toList.drop 71 = dktX1_copy_3 := dk_seg dksX1_copy_2 24 rfl rfl
theorem dksX1_copy_4 : cX1_copy.data.toList.drop 95 = dktX1_copy_4 := dk_seg dksX1_copy_3 24 rfl rfl
theorem dksX1_copy_5 : cX1_copy.data.toList.drop 119 = dktX1_copy_5 := dk_seg dksX1_copy_4 24 rfl rfl
theorem dksX1_copy_6 : cX1_copy.data.toList.drop 143 = dktX1_copy_6 := dk_seg dksX1_copy_5 24 rfl rfl
theorem dksX1_copy_7 : cX1_copy.data.toList.drop 165 = dktX1_copy_7 := dk_seg dksX1_copy_6 22 rfl rfl
theorem dX1_copy_0 : decode cX1_copy 0 = .ok (.iload_n 1, 1) := dk_27 (dk_at dksX1_copy_0 0 rfl rfl)
theorem dX1_copy_1 : decode cX1_copy 1 = .ok (.invokestatic 130, 3) := dk_184 0 130 (dk_at dksX1_copy_0 1 rfl rfl)
theorem dX1_copy_4 : decode cX1_copy 4 = .ok (.ifCond .eq 10, 3) := dk_153 0 10 (dk_at dksX1_copy_0 4 rfl rfl)
theorem dX1_copy_7 : decode cX1_copy 7 = .ok (.iload_n 3, 1) := dk_29 (dk_at dksX1_copy_0 7 rfl rfl)
theorem dX1_copy_8 : decode cX1_copy 8 = .ok (.invokestatic 130, 3) := dk_184 0 130 (dk_at dksX1_copy_0 8 rfl rfl)
theorem dX1_copy_11 : decode cX1_copy 11 = .ok (.ifCond .ne 5, 3) := dk_154 0 5 (dk_at dksX1_copy_0 11 rfl rfl)
theorem dX1_copy_14 : decode cX1_copy 14 = .ok (.iconst (-1), 1) := dk_2 (dk_at dksX1_copy_0 14 rfl rfl)
theorem dX1_copy_15 : decode cX1_copy 15 = .ok (.ireturn, 1) := dk_172 (dk_at dksX1_copy_0 15 rfl rfl)
theorem dX1_copy_16 : decode cX1_copy 16 = .ok (.iload 5, 2) := dk_21 5 (dk_at dksX1_copy_0 16 rfl rfl)
theorem dX1_copy_18 : decode cX1_copy 18 = .ok (.ifCond .ge 9, 3) := dk_156 0 9 (dk_at dksX1_copy_0 18 rfl rfl)
theorem dX1_copy_21 : decode cX1_copy 21 = .ok (.aload_n 0, 1) := dk_42 (dk_at dksX1_copy_0 21 rfl rfl)
theorem dX1_copy_22 : decode cX1_copy 22 = .ok (.iconst 5, 1) := dk_8 (dk_at dksX1_copy_0 22 rfl rfl)
theorem dX1_copy_23 : decode cX1_copy 23 = .ok (.invokevirtual 134, 3) := dk_182 0 134 (dk_at dksX1_copy_1 0 rfl rfl)
theorem dX1_copy_26 : decode cX1_copy 26 = .ok (.ireturn, 1) := dk_172 (dk_at dksX1_copy_1 3 rfl rfl)
theorem dX1_copy_27 : decode cX1_copy 27 = .ok (.aload_n 0, 1) := dk_42 (dk_at dksX1_copy_1 4 rfl rfl)
theorem dX1_copy_28 : decode cX1_copy 28 = .ok (.getfield 13, 3) := dk_180 0 13 (dk_at dksX1_copy_1 5 rfl rfl)
theorem dX1_copy_31 : decode cX1_copy 31 = .ok (.iload_n 1, 1) := dk_27 (dk_at dksX1_copy_1 8 rfl rfl)
theorem dX1_copy_32 : decode cX1_copy 32 = .ok (.iaload, 1) := dk_46 (dk_at dksX1_copy_1 9 rfl rfl)
theorem dX1_copy_33 : decode cX1_copy 33 = .ok (.ifCond .lt 12, 3) := dk_155 0 12 (dk_at dksX1_copy_1 10 rfl rfl)
theorem dX1_copy_36 : decode cX1_copy 36 = .ok (.aload_n 0, 1) := dk_42 (dk_at dksX1_copy_1 13 rfl rfl)
theorem dX1_copy_37 : decode cX1_copy 37 = .ok (.getfield 13, 3) := dk_180 0 13 (dk_at dksX1_copy_1 14 rfl rfl)
theorem dX1_copy_40 : decode cX1_copy 40 = .ok (.iload_n 3, 1) := dk_29 (dk_at dksX1_copy_1 17 rfl rfl)
theorem dX1_copy_41 : decode cX1_copy 41 = .ok (.iaload, 1) := dk_46 (dk_at dksX1_copy_1 18 rfl rfl)
theorem dX1_copy_42 : decode cX1_copy 42 = .ok (.ifCond .ge 9, 3) := dk_156 0 9 (dk_at dksX1_copy_1 19 rfl rfl)
theorem dX1_copy_45 : decode cX1_copy 45 = .ok (.aload_n 0, 1) := dk_42 (dk_at dksX1_copy_1 22 rfl rfl)
theorem dX1_copy_46 : decode cX1_copy 46 = .ok (.iconst 1, 1) := dk_4 (dk_at dksX1_copy_1 23 rfl rfl)
theorem dX1_copy_47 : decode cX1_copy 47 = .ok (.invokevirtual 134, 3) := dk_182 0 134 (dk_at dksX1_copy_2 0 rfl rfl)
theorem dX1_copy_50 : decode cX1_copy 50 = .ok (.ireturn, 1) := dk_172 (dk_at dksX1_copy_2 3 rfl rfl)
theorem dX1_copy_51 : decode cX1_copy 51 = .ok (.iload_n 2, 1) := dk_28 (dk_at dksX1_copy_2 4 rfl rfl)
theorem dX1_copy_52 : decode cX1_copy 52 = .ok (.ifCond .lt 43, 3) := dk_155 0 43 (dk_at dksX1_copy_2 5 rfl rfl)
theorem dX1_copy_55 : decode cX1_copy 55 = .ok (.iload 4, 2) := dk_21 4 (dk_at dksX1_copy_2 8 rfl rfl)
theorem dX1_copy_57 : decode cX1_copy 57 = .ok (.ifCond .lt 38, 3) := dk_155 0 38 (dk_at dksX1_copy_2 10 rfl rfl)
theorem dX1_copy_60 : decode cX1_copy 60 = .ok (.iload_n 2, 1) := dk_28 (dk_at dksX1_copy_2 13 rfl rfl)
theorem dX1_copy_61 : decode cX1_copy 61 = .ok (.i2l, 1) := dk_133 (dk_at dksX1_copy_2 14 rfl rfl)
theorem dX1_copy_62 : decode cX1_copy 62 = .ok (.iload 5, 2) := dk_21 5 (dk_at dksX1_copy_2 15 rfl rfl)
theorem dX1_copy_64 : decode cX1_copy 64 = .ok (.i2l, 1) := dk_133 (dk_at dksX1_copy_2 17 rfl rfl)
theorem dX1_copy_65 : decode cX1_copy 65 = .ok (.ladd, 1) := dk_97 (dk_at dksX1_copy_2 18 rfl rfl)
theorem dX1_copy_66 : decode cX1_copy 66 = .ok (.aload_n 0, 1) := dk_42 (dk_at dksX1_copy_2 19 rfl rfl)
theorem dX1_copy_67 : decode cX1_copy 67 = .ok (.getfield 13, 3) := dk_180 0 13 (dk_at dksX1_copy_2 20 rfl rfl)
theorem dX1_copy_70 : decode cX1_copy 70 = .ok (.iload_n 1, 1) := dk_27 (dk_at dksX1_copy_2 23 rfl rfl)
theorem dX1_copy_71 : decode cX1_copy 71 = .ok (.iaload, 1) := dk_46 (dk_at dksX1_copy_3 0 rfl rfl)
theorem dX1_copy_72 : decode cX1_copy 72 = .ok (.i2l, 1) := dk_133 (dk_at dksX1_copy_3 1 rfl rfl)
theorem dX1_copy_73 : decode cX1_copy 73 = .ok (.lcmp, 1) := dk_148 (dk_at dksX1_copy_3 2 rfl rfl)
theorem dX1_copy_74 : decode cX1_copy 74 = .ok (.ifCond .gt 21, 3) := dk_157 0 21 (dk_at dksX1_copy_3 3 rfl rfl)
theorem dX1_copy_77 : decode cX1_copy 77 = .ok (.iload 4, 2) := dk_21 4 (dk_at dksX1_copy_3 6 rfl rfl)
theorem dX1_copy_79 : decode cX1_copy 79 = .ok (.i2l, 1) := dk_133 (dk_at dksX1_copy_3 8 rfl rfl)
theorem dX1_copy_80 : decode cX1_copy 80 = .ok (.iload 5, 2) := dk_21 5 (dk_at dksX1_copy_3 9 rfl rfl)
theorem dX1_copy_82 : decode cX1_copy 82 = .ok (.i2l, 1) := dk_133 (dk_at dksX1_copy_3 11 rfl rfl)
theorem dX1_copy_83 : decode cX1_copy 83 = .ok (.ladd, 1) := dk_97 (dk_at dksX1_copy_3 12 rfl rfl)
theorem dX1_copy_84 : decode cX1_copy 84 = .ok (.aload_n 0, 1) := dk_42 (dk_at dksX1_copy_3 13 rfl rfl)
theorem dX1_copy_85 : decode cX1_copy 85 = .ok (.getfield 13, 3) := dk_180 0 13 (dk_at dksX1_copy_3 14 rfl rfl)
theorem dX1_copy_88 : decode cX1_copy 88 = .ok (.iload_n 3, 1) := dk_29 (dk_at dksX1_copy_3 17 rfl rfl)
theorem dX1_copy_89 : decode cX1_copy 89 = .ok (.iaload, 1) := dk_46 (dk_at dksX1_copy_3 18 rfl rfl)
theorem dX1_copy_90 : decode cX1_copy 90 = .ok (.i2l, 1) := dk_133 (dk_at dksX1_copy_3 19 rfl rfl)
theorem dX1_copy_91 : decode cX1_copy 91 = .ok (.lcmp, 1) := dk_148 (dk_at dksX1_copy_3 20 rfl rfl)
theorem dX1_copy_92 : decode cX1_copy 92 = .ok (.ifCond .le 9, 3) := dk_158 0 9 (dk_at dksX1_copy_3 21 rfl rfl)
theorem dX1_copy_95 : decode cX1_copy 95 = .ok (.aload_n 0, 1) := dk_42 (dk_at dksX1_copy_4 0 rfl rfl)
theorem dX1_copy_96 : decode cX1_copy 96 = .ok (.iconst 2, 1) := dk_5 (dk_at dksX1_copy_4 1 rfl rfl)
theorem dX1_copy_97 : decode cX1_copy 97 = .ok (.invokevirtual 134, 3) := dk_182 0 134 (dk_at dksX1_copy_4 2 rfl rfl)
theorem dX1_copy_100 : decode cX1_copy 100 = .ok (.ireturn, 1) := dk_172 (dk_at dksX1_copy_4 5 rfl rfl)
theorem dX1_copy_101 : decode cX1_copy 101 = .ok (.iconst 0, 1) := dk_3 (dk_at dksX1_copy_4 6 rfl rfl)
theorem dX1_copy_102 : decode cX1_copy 102 = .ok (.istore 6, 2) := dk_54 6 (dk_at dksX1_copy_4 7 rfl rfl)
theorem dX1_copy_104 : decode cX1_copy 104 = .ok (.iload 6, 2) := dk_21 6 (dk_at dksX1_copy_4 9 rfl rfl)
theorem dX1_copy_106 : decode cX1_copy 106 = .ok (.iload 5, 2) := dk_21 5 (dk_at dksX1_copy_4 11 rfl rfl)
theorem dX1_copy_108 : decode cX1_copy 108 = .ok (.if_icmp .ge 25, 3) := dk_162 0 25 (dk_at dksX1_copy_4 13 rfl rfl)
theorem dX1_copy_111 : decode cX1_copy 111 = .ok (.aload_n 0, 1) := dk_42 (dk_at dksX1_copy_4 16 rfl rfl)
theorem dX1_copy_112 : decode cX1_copy 112 = .ok (.getfield 19, 3) := dk_180 0 19 (dk_at dksX1_copy_4 17 rfl rfl)
theorem dX1_copy_115 : decode cX1_copy 115 = .ok (.iload 6, 2) := dk_21 6 (dk_at dksX1_copy_4 20 rfl rfl)
theorem dX1_copy_117 : decode cX1_copy 117 = .ok (.aload_n 0, 1) := dk_42 (dk_at dksX1_copy_4 22 rfl rfl)
theorem dX1_copy_118 : decode cX1_copy 118 = .ok (.iload_n 1, 1) := dk_27 (dk_at dksX1_copy_4 23 rfl rfl)
theorem dX1_copy_119 : decode cX1_copy 119 = .ok (.iload_n 2, 1) := dk_28 (dk_at dksX1_copy_5 0 rfl rfl)
theorem dX1_copy_120 : decode cX1_copy 120 = .ok (.iload 6, 2) := dk_21 6 (dk_at dksX1_copy_5 1 rfl rfl)
theorem dX1_copy_122 : decode cX1_copy 122 = .ok (.iadd, 1) := dk_96 (dk_at dksX1_copy_5 3 rfl rfl)
theorem dX1_copy_123 : decode cX1_copy 123 = .ok (.invokevirtual 138, 3) := dk_182 0 138 (dk_at dksX1_copy_5 4 rfl rfl)
theorem dX1_copy_126 : decode cX1_copy 126 = .ok (.iastore, 1) := dk_79 (dk_at dksX1_copy_5 7 rfl rfl)
theorem dX1_copy_127 : decode cX1_copy 127 = .ok (.iinc 6 1, 3) := dk_132 6 1 (dk_at dksX1_copy_5 8 rfl rfl)
theorem dX1_copy_130 : decode cX1_copy 130 = .ok (.goto (-26), 3) := dk_167 255 230 (dk_at dksX1_copy_5 11 rfl rfl)
theorem dX1_copy_133 : decode cX1_copy 133 = .ok (.iconst 0, 1) := dk_3 (dk_at dksX1_copy_5 14 rfl rfl)
theorem dX1_copy_134 : decode cX1_copy 134 = .ok (.istore 6, 2) := dk_54 6 (dk_at dksX1_copy_5 15 rfl rfl)
theorem dX1_copy_136 : decode cX1_copy 136 = .ok (.iload 6, 2) := dk_21 6 (dk_at dksX1_copy_5 17 rfl rfl)
theorem dX1_copy_138 : decode cX1_copy 138 = .ok (.iload 5, 2) := dk_21 5 (dk_at dksX1_copy_5 19 rfl rfl)
theorem dX1_copy_140 : decode cX1_copy 140 = .ok (.if_icmp .ge 31, 3) := dk_162 0 31 (dk_at dksX1_copy_5 21 rfl rfl)
theorem dX1_copy_143 : decode cX1_copy 143 = .ok (.aload_n 0, 1) := dk_42 (dk_at dksX1_copy_6 0 rfl rfl)
theorem dX1_copy_144 : decode cX1_copy 144 = .ok (.getfield 16, 3) := dk_180 0 16 (dk_at dksX1_copy_6 1 rfl rfl)
theorem dX1_copy_147 : decode cX1_copy 147 = .ok (.bipush 40, 2) := dk_16 40 (dk_at dksX1_copy_6 4 rfl rfl)
theorem dX1_copy_149 : decode cX1_copy 149 = .ok (.iload_n 3, 1) := dk_29 (dk_at dksX1_copy_6 6 rfl rfl)
theorem dX1_copy_150 : decode cX1_copy 150 = .ok (.imul, 1) := dk_104 (dk_at dksX1_copy_6 7 rfl rfl)
theorem dX1_copy_151 : decode cX1_copy 151 = .ok (.iload 4, 2) := dk_21 4 (dk_at dksX1_copy_6 8 rfl rfl)
theorem dX1_copy_153 : decode cX1_copy 153 = .ok (.iadd, 1) := dk_96 (dk_at dksX1_copy_6 10 rfl rfl)
theorem dX1_copy_154 : decode cX1_copy 154 = .ok (.iload 6, 2) := dk_21 6 (dk_at dksX1_copy_6 11 rfl rfl)
theorem dX1_copy_156 : decode cX1_copy 156 = .ok (.iadd, 1) := dk_96 (dk_at dksX1_copy_6 13 rfl rfl)
theorem dX1_copy_157 : decode cX1_copy 157 = .ok (.aload_n 0, 1) := dk_42 (dk_at dksX1_copy_6 14 rfl rfl)
theorem dX1_copy_158 : decode cX1_copy 158 = .ok (.getfield 19, 3) := dk_180 0 19 (dk_at dksX1_copy_6 15 rfl rfl)
theorem dX1_copy_161 : decode cX1_copy 161 = .ok (.iload 6, 2) := dk_21 6 (dk_at dksX1_copy_6 18 rfl rfl)
theorem dX1_copy_163 : decode cX1_copy 163 = .ok (.iaload, 1) := dk_46 (dk_at dksX1_copy_6 20 rfl rfl)
theorem dX1_copy_164 : decode cX1_copy 164 = .ok (.iastore, 1) := dk_79 (dk_at dksX1_copy_6 21 rfl rfl)
theorem dX1_copy_165 : decode cX1_copy 165 = .ok (.iinc 6 1, 3) := dk_132 6 1 (dk_at dksX1_copy_7 0 rfl rfl)
theorem dX1_copy_168 : decode cX1_copy 168 = .ok (.goto (-32), 3) := dk_167 255 224 (dk_at dksX1_copy_7 3 rfl rfl)
theorem dX1_copy_171 : decode cX1_copy 171 = .ok (.iconst 1, 1) := dk_4 (dk_at dksX1_copy_7 6 rfl rfl)
theorem dX1_copy_172 : decode cX1_copy 172 = .ok (.ireturn, 1) := dk_172 (dk_at dksX1_copy_7 7 rfl rfl)
abbrev cX1_mean : ByteArray := prog_8_method_21_code
def yX1_mean : MethodName := ⟨RX1, "mean", "(I)I"⟩
def dkwX1_mean_3 : List UInt8 := [167, 255, 231, 42, 32, 42, 180, 0, 13, 27, 46, 133, 109, 136, 4, 182, 0, 142, 172]
abbrev dktX1_mean_3 : List UInt8 := dkwX1_mean_3 ++ []
def dkwX1_mean_2 : List UInt8 := [180, 0, 13, 27, 46, 162, 0, 20, 32, 42, 27, 21, 4, 182, 0, 138, 133, 97, 65, 132, 4, 1]
abbrev dktX1_mean_2 : List UInt8 := dkwX1_mean_2 ++ dktX1_mean_3
def dkwX1_mean_1 : List UInt8 := [42, 180, 0, 13, 27, 46, 154, 0, 9, 42, 7, 182, 0, 134, 172, 9, 65, 3, 54, 4, 21, 4, 42]
abbrev dktX1_mean_1 : List UInt8 := dkwX1_mean_1 ++ dktX1_mean_2
def dkwX1_mean_0 : List UInt8 := [27, 184, 0, 130, 154, 0, 5, 2, 172, 42, 180, 0, 13, 27, 46, 156, 0, 9, 42, 4, 182, 0, 134, 172]
abbrev dktX1_mean_0 : List UInt8 := dkwX1_mean_0 ++ dktX1_mean_1
theorem dksX1_mean_0 : cX1_mean.data.toList.drop 0 = dktX1_mean_0 := by decide +kernel
theorem dksX1_mean_1 : cX1_mean.data.toList.drop 24 = dktX1_mean_1 := dk_seg dksX1_mean_0 24 rfl rfl
theorem dksX1_mean_2 : cX1_mean.data.toList.drop 47 = dktX1_mean_2 := dk_seg dksX1_mean_1 23 rfl rfl
theorem dksX1_mean_3 : cX1_mean.data.toList.drop 69 = dktX1_mean_3 := dk_seg dksX1_mean_2 22 rfl rfl
theorem dX1_mean_0 : decode cX1_mean 0 = .ok (.iload_n 1, 1) := dk_27 (dk_at dksX1_mean_0 0 rfl rfl)
theorem dX1_mean_1 : decode cX1_mean 1 = .ok (.invokestatic 130, 3) := dk_184 0 130 (dk_at dksX1_mean_0 1 rfl rfl)
theorem dX1_mean_4 : decode cX1_mean 4 = .ok (.ifCond .ne 5, 3) := dk_154 0 5 (dk_at dksX1_mean_0 4 rfl rfl)
theorem dX1_mean_7 : decode cX1_mean 7 = .ok (.iconst (-1), 1) := dk_2 (dk_at dksX1_mean_0 7 rfl rfl)
theorem dX1_mean_8 : decode cX1_mean 8 = .ok (.ireturn, 1) := dk_172 (dk_at dksX1_mean_0 8 rfl rfl)
theorem dX1_mean_9 : decode cX1_mean 9 = .ok (.aload_n 0, 1) := dk_42 (dk_at dksX1_mean_0 9 rfl rfl)
theorem dX1_mean_10 : decode cX1_mean 10 = .ok (.getfield 13, 3) := dk_180 0 13 (dk_at dksX1_mean_0 10 rfl rfl)
theorem dX1_mean_13 : decode cX1_mean 13 = .ok (.iload_n 1, 1) := dk_27 (dk_at dksX1_mean_0 13 rfl rfl)
theorem dX1_mean_14 : decode cX1_mean 14 = .ok (.iaload, 1) := dk_46 (dk_at dksX1_mean_0 14 rfl rfl)
theorem dX1_mean_15 : decode cX1_mean 15 = .ok (.ifCond .ge 9, 3) := dk_156 0 9 (dk_at dksX1_mean_0 15 rfl rfl)
theorem dX1_mean_18 : decode cX1_mean 18 = .ok (.aload_n 0, 1) := dk_42 (dk_at dksX1_mean_0 18 rfl rfl)
theorem dX1_mean_19 : decode cX1_mean 19 = .ok (.iconst 1, 1) := dk_4 (dk_at dksX1_mean_0 19 rfl rfl)
theorem dX1_mean_20 : decode cX1_mean 20 = .ok (.invokevirtual 134, 3) := dk_182 0 134 (dk_at dksX1_mean_0 20 rfl rfl)
theorem dX1_mean_23 : decode cX1_mean 23 = .ok (.ireturn, 1) := dk_172 (dk_at dksX1_mean_0 23 rfl rfl)
theorem dX1_mean_24 : decode cX1_mean 24 = .ok (.aload_n 0, 1) := dk_42 (dk_at dksX1_mean_1 0 rfl rfl)
theorem dX1_mean_25 : decode cX1_mean 25 = .ok (.getfield 13, 3) := dk_180 0 13 (dk_at dksX1_mean_1 1 rfl rfl)
theorem dX1_mean_28 : decode cX1_mean 28 = .ok (.iload_n 1, 1) := dk_27 (dk_at dksX1_mean_1 4 rfl rfl)
theorem dX1_mean_29 : decode cX1_mean 29 = .ok (.iaload, 1) := dk_46 (dk_at dksX1_mean_1 5 rfl rfl)
theorem dX1_mean_30 : decode cX1_mean 30 = .ok (.ifCond .ne 9, 3) := dk_154 0 9 (dk_at dksX1_mean_1 6 rfl rfl)
theorem dX1_mean_33 : decode cX1_mean 33 = .ok (.aload_n 0, 1) := dk_42 (dk_at dksX1_mean_1 9 rfl rfl)
theorem dX1_mean_34 : decode cX1_mean 34 = .ok (.iconst 4, 1) := dk_7 (dk_at dksX1_mean_1 10 rfl rfl)
theorem dX1_mean_35 : decode cX1_mean 35 = .ok (.invokevirtual 134, 3) := dk_182 0 134 (dk_at dksX1_mean_1 11 rfl rfl)
theorem dX1_mean_38 : decode cX1_mean 38 = .ok (.ireturn, 1) := dk_172 (dk_at dksX1_mean_1 14 rfl rfl)
theorem dX1_mean_39 : decode cX1_mean 39 = .ok (.lconst 0, 1) := dk_9 (dk_at dksX1_mean_1 15 rfl rfl)
theorem dX1_mean_40 : decode cX1_mean 40 = .ok (.lstore_n 2, 1) := dk_65 (dk_at dksX1_mean_1 16 rfl rfl)
theorem dX1_mean_41 : decode cX1_mean 41 = .ok (.iconst 0, 1) := dk_3 (dk_at dksX1_mean_1 17 rfl rfl)
theorem dX1_mean_42 : decode cX1_mean 42 = .ok (.istore 4, 2) := dk_54 4 (dk_at dksX1_mean_1 18 rfl rfl)
theorem dX1_mean_44 : decode cX1_mean 44 = .ok (.iload 4, 2) := dk_21 4 (dk_at dksX1_mean_1 20 rfl rfl)
theorem dX1_mean_46 : decode cX1_mean 46 = .ok (.aload_n 0, 1) := dk_42 (dk_at dksX1_mean_1 22 rfl rfl)
theorem dX1_mean_47 : decode cX1_mean 47 = .ok (.getfield 13, 3) := dk_180 0 13 (dk_at dksX1_mean_2 0 rfl rfl)
theorem dX1_mean_50 : decode cX1_mean 50 = .ok (.iload_n 1, 1) := dk_27 (dk_at dksX1_mean_2 3 rfl rfl)
theorem dX1_mean_51 : decode cX1_mean 51 = .ok (.iaload, 1) := dk_46 (dk_at dksX1_mean_2 4 rfl rfl)
theorem dX1_mean_52 : decode cX1_mean 52 = .ok (.if_icmp .ge 20, 3) := dk_162 0 20 (dk_at dksX1_mean_2 5 rfl rfl)
theorem dX1_mean_55 : decode cX1_mean 55 = .ok (.lload_n 2, 1) := dk_32 (dk_at dksX1_mean_2 8 rfl rfl)
theorem dX1_mean_56 : decode cX1_mean 56 = .ok (.aload_n 0, 1) := dk_42 (dk_at dksX1_mean_2 9 rfl rfl)
theorem dX1_mean_57 : decode cX1_mean 57 = .ok (.iload_n 1, 1) := dk_27 (dk_at dksX1_mean_2 10 rfl rfl)
theorem dX1_mean_58 : decode cX1_mean 58 = .ok (.iload 4, 2) := dk_21 4 (dk_at dksX1_mean_2 11 rfl rfl)
theorem dX1_mean_60 : decode cX1_mean 60 = .ok (.invokevirtual 138, 3) := dk_182 0 138 (dk_at dksX1_mean_2 13 rfl rfl)
theorem dX1_mean_63 : decode cX1_mean 63 = .ok (.i2l, 1) := dk_133 (dk_at dksX1_mean_2 16 rfl rfl)
theorem dX1_mean_64 : decode cX1_mean 64 = .ok (.ladd, 1) := dk_97 (dk_at dksX1_mean_2 17 rfl rfl)
theorem dX1_mean_65 : decode cX1_mean 65 = .ok (.lstore_n 2, 1) := dk_65 (dk_at dksX1_mean_2 18 rfl rfl)
theorem dX1_mean_66 : decode cX1_mean 66 = .ok (.iinc 4 1, 3) := dk_132 4 1 (dk_at dksX1_mean_2 19 rfl rfl)
theorem dX1_mean_69 : decode cX1_mean 69 = .ok (.goto (-25), 3) := dk_167 255 231 (dk_at dksX1_mean_3 0 rfl rfl)
theorem dX1_mean_72 : decode cX1_mean 72 = .ok (.aload_n 0, 1) := dk_42 (dk_at dksX1_mean_3 3 rfl rfl)
theorem dX1_mean_73 : decode cX1_mean 73 = .ok (.lload_n 2, 1) := dk_32 (dk_at dksX1_mean_3 4 rfl rfl)
theorem dX1_mean_74 : decode cX1_mean 74 = .ok (.aload_n 0, 1) := dk_42 (dk_at dksX1_mean_3 5 rfl rfl)
theorem dX1_mean_75 : decode cX1_mean 75 = .ok (.getfield 13, 3) := dk_180 0 13 (dk_at dksX1_mean_3 6 rfl rfl)
theorem dX1_mean_78 : decode cX1_mean 78 = .ok (.iload_n 1, 1) := dk_27 (dk_at dksX1_mean_3 9 rfl rfl)
theorem dX1_mean_79 : decode cX1_mean 79 = .ok (.iaload, 1) := dk_46 (dk_at dksX1_mean_3 10 rfl rfl)
theorem dX1_mean_80 : decode cX1_mean 80 = .ok (.i2l, 1) := dk_133 (dk_at dksX1_mean_3 11 rfl rfl)
theorem dX1_mean_81 : decode cX1_mean 81 = .ok (.ldiv, 1) := dk_109 (dk_at dksX1_mean_3 12 rfl rfl)
theorem dX1_mean_82 : decode cX1_mean 82 = .ok (.l2i, 1) := dk_136 (dk_at dksX1_mean_3 13 rfl rfl)
theorem dX1_mean_83 : decode cX1_mean 83 = .ok (.iconst 1, 1) := dk_4 (dk_at dksX1_mean_3 14 rfl rfl)
theorem dX1_mean_84 : decode cX1_mean 84 = .ok (.invokevirtual 142, 3) := dk_182 0 142 (dk_at dksX1_mean_3 15 rfl rfl)
theorem dX1_mean_87 : decode cX1_mean 87 = .ok (.ireturn, 1) := dk_172 (dk_at dksX1_mean_3 18 rfl rfl)
abbrev cX1_text : ByteArray := prog_8_method_23_code
def yX1_text : MethodName := ⟨RX1, "text", "(II)I"⟩
def dkwX1_text_2 : List UInt8 := [29, 96, 16, 32, 84, 132, 3, 1, 167, 255, 234, 28, 172]
abbrev dktX1_text_2 : List UInt8 := dkwX1_text_2 ++ []
def dkwX1_text_1 : List UInt8 := [172, 42, 180, 0, 22, 27, 28, 79, 3, 62, 29, 16, 60, 162, 0, 22, 42, 180, 0, 25, 16, 60, 27, 104]
abbrev dktX1_text_1 : List UInt8 := dkwX1_text_1 ++ dktX1_text_2
def dkwX1_text_0 : List UInt8 := [27, 184, 0, 145, 153, 0, 9, 28, 16, 60, 164, 0, 5, 2, 172, 28, 156, 0, 9, 42, 8, 182, 0, 134]
abbrev dktX1_text_0 : List UInt8 := dkwX1_text_0 ++ dktX1_text_1
theorem dksX1_text_0 : cX1_text.data.toList.drop 0 = dktX1_text_0 := by decide +kernel
theorem dksX1_text_1 : cX1_text.data.toList.drop 24 = dktX1_text_1 := dk_seg dksX1_text_0 24 rfl rfl
theorem dksX1_text_2 : cX1_text.data.toList.drop 48 = dktX1_text_2 := dk_seg dksX1_text_1 24 rfl rfl
theorem dX1_text_0 : decode cX1_text 0 = .ok (.iload_n 1, 1) := dk_27 (dk_at dksX1_text_0 0 rfl rfl)
theorem dX1_text_1 : decode cX1_text 1 = .ok (.invokestatic 145, 3) := dk_184 0 145 (dk_at dksX1_text_0 1 rfl rfl)
theorem dX1_text_4 : decode cX1_text 4 = .ok (.ifCond .eq 9, 3) := dk_153 0 9 (dk_at dksX1_text_0 4 rfl rfl)
theorem dX1_text_7 : decode cX1_text 7 = .ok (.iload_n 2, 1) := dk_28 (dk_at dksX1_text_0 7 rfl rfl)
theorem dX1_text_8 : decode cX1_text 8 = .ok (.bipush 60, 2) := dk_16 60 (dk_at dksX1_text_0 8 rfl rfl)
theorem dX1_text_10 : decode cX1_text 10 = .ok (.if_icmp .le 5, 3) := dk_164 0 5 (dk_at dksX1_text_0 10 rfl rfl)
theorem dX1_text_13 : decode cX1_text 13 = .ok (.iconst (-1), 1) := dk_2 (dk_at dksX1_text_0 13 rfl rfl)
theorem dX1_text_14 : decode cX1_text 14 = .ok (.ireturn, 1) := dk_172 (dk_at dksX1_text_0 14 rfl rfl)
theorem dX1_text_15 : decode cX1_text 15 = .ok (.iload_n 2, 1) := dk_28 (dk_at dksX1_text_0 15 rfl rfl)
theorem dX1_text_16 : decode cX1_text 16 = .ok (.ifCond .ge 9, 3) := dk_156 0 9 (dk_at dksX1_text_0 16 rfl rfl)
theorem dX1_text_19 : decode cX1_text 19 = .ok (.aload_n 0, 1) := dk_42 (dk_at dksX1_text_0 19 rfl rfl)
theorem dX1_text_20 : decode cX1_text 20 = .ok (.iconst 5, 1) := dk_8 (dk_at dksX1_text_0 20 rfl rfl)
theorem dX1_text_21 : decode cX1_text 21 = .ok (.invokevirtual 134, 3) := dk_182 0 134 (dk_at dksX1_text_0 21 rfl rfl)
theorem dX1_text_24 : decode cX1_text 24 = .ok (.ireturn, 1) := dk_172 (dk_at dksX1_text_1 0 rfl rfl)
theorem dX1_text_25 : decode cX1_text 25 = .ok (.aload_n 0, 1) := dk_42 (dk_at dksX1_text_1 1 rfl rfl)
theorem dX1_text_26 : decode cX1_text 26 = .ok (.getfield 22, 3) := dk_180 0 22 (dk_at dksX1_text_1 2 rfl rfl)
theorem dX1_text_29 : decode cX1_text 29 = .ok (.iload_n 1, 1) := dk_27 (dk_at dksX1_text_1 5 rfl rfl)
theorem dX1_text_30 : decode cX1_text 30 = .ok (.iload_n 2, 1) := dk_28 (dk_at dksX1_text_1 6 rfl rfl)
theorem dX1_text_31 : decode cX1_text 31 = .ok (.iastore, 1) := dk_79 (dk_at dksX1_text_1 7 rfl rfl)
theorem dX1_text_32 : decode cX1_text 32 = .ok (.iconst 0, 1) := dk_3 (dk_at dksX1_text_1 8 rfl rfl)
theorem dX1_text_33 : decode cX1_text 33 = .ok (.istore_n 3, 1) := dk_62 (dk_at dksX1_text_1 9 rfl rfl)
theorem dX1_text_34 : decode cX1_text 34 = .ok (.iload_n 3, 1) := dk_29 (dk_at dksX1_text_1 10 rfl rfl)
theorem dX1_text_35 : decode cX1_text 35 = .ok (.bipush 60, 2) := dk_16 60 (dk_at dksX1_text_1 11 rfl rfl)
theorem dX1_text_37 : decode cX1_text 37 = .ok (.if_icmp .ge 22, 3) := dk_162 0 22 (dk_at dksX1_text_1 13 rfl rfl)
theorem dX1_text_40 : decode cX1_text 40 = .ok (.aload_n 0, 1) := dk_42 (dk_at dksX1_text_1 16 rfl rfl)
theorem dX1_text_41 : decode cX1_text 41 = .ok (.getfield 25, 3) := dk_180 0 25 (dk_at dksX1_text_1 17 rfl rfl)
theorem dX1_text_44 : decode cX1_text 44 = .ok (.bipush 60, 2) := dk_16 60 (dk_at dksX1_text_1 20 rfl rfl)
theorem dX1_text_46 : decode cX1_text 46 = .ok (.iload_n 1, 1) := dk_27 (dk_at dksX1_text_1 22 rfl rfl)
theorem dX1_text_47 : decode cX1_text 47 = .ok (.imul, 1) := dk_104 (dk_at dksX1_text_1 23 rfl rfl)
theorem dX1_text_48 : decode cX1_text 48 = .ok (.iload_n 3, 1) := dk_29 (dk_at dksX1_text_2 0 rfl rfl)
theorem dX1_text_49 : decode cX1_text 49 = .ok (.iadd, 1) := dk_96 (dk_at dksX1_text_2 1 rfl rfl)
theorem dX1_text_50 : decode cX1_text 50 = .ok (.bipush 32, 2) := dk_16 32 (dk_at dksX1_text_2 2 rfl rfl)
theorem dX1_text_52 : decode cX1_text 52 = .ok (.bastore, 1) := dk_84 (dk_at dksX1_text_2 4 rfl rfl)
theorem dX1_text_53 : decode cX1_text 53 = .ok (.iinc 3 1, 3) := dk_132 3 1 (dk_at dksX1_text_2 5 rfl rfl)
theorem dX1_text_56 : decode cX1_text 56 = .ok (.goto (-22), 3) := dk_167 255 234 (dk_at dksX1_text_2 8 rfl rfl)
theorem dX1_text_59 : decode cX1_text 59 = .ok (.iload_n 2, 1) := dk_28 (dk_at dksX1_text_2 11 rfl rfl)
theorem dX1_text_60 : decode cX1_text 60 = .ok (.ireturn, 1) := dk_172 (dk_at dksX1_text_2 12 rfl rfl)
abbrev cX1_isText : ByteArray := prog_8_method_22_code
def yX1_isText : MethodName := ⟨RX1, "isText", "(I)Z"⟩
def dkwX1_isText_0 : List UInt8 := [26, 3, 6, 184, 0, 117, 172]
abbrev dktX1_isText_0 : List UInt8 := dkwX1_isText_0 ++ []
theorem dksX1_isText_0 : cX1_isText.data.toList.drop 0 = dktX1_isText_0 := by decide +kernel
theorem dX1_isText_0 : decode cX1_isText 0 = .ok (.iload_n 0, 1) := dk_26 (dk_at dksX1_isText_0 0 rfl rfl)
theorem dX1_isText_1 : decode cX1_isText 1 = .ok (.iconst 0, 1) := dk_3 (dk_at dksX1_isText_0 1 rfl rfl)
theorem dX1_isText_2 : decode cX1_isText 2 = .ok (.iconst 3, 1) := dk_6 (dk_at dksX1_isText_0 2 rfl rfl)
theorem dX1_isText_3 : decode cX1_isText 3 = .ok (.invokestatic 117, 3) := dk_184 0 117 (dk_at dksX1_isText_0 3 rfl rfl)
theorem dX1_isText_6 : decode cX1_isText 6 = .ok (.ireturn, 1) := dk_172 (dk_at dksX1_isText_0 6 rfl rfl)
abbrev cX1_put : ByteArray := prog_8_method_24_code
def yX1_put : MethodName := ⟨RX1, "put", "(III)I"⟩
def dkwX1_put_3 : List UInt8 := [84, 17, 3, 232, 21, 4, 96, 172]
abbrev dktX1_put_3 : List UInt8 := dkwX1_put_3 ++ []
def dkwX1_put_2 : List UInt8 := [180, 0, 25, 16, 60, 27, 104, 28, 96, 51, 54, 4, 42, 180, 0, 25, 16, 60, 27, 104, 28, 96, 29, 145]
abbrev dktX1_put_2 : List UInt8 := dkwX1_put_2 ++ dktX1_put_3
def dkwX1_put_1 : List UInt8 := [28, 3, 42, 180, 0, 22, 27, 46, 4, 100, 184, 0, 117, 154, 0, 9, 42, 5, 182, 0, 134, 172, 42]
abbrev dktX1_put_1 : List UInt8 := dkwX1_put_1 ++ dktX1_put_2
def dkwX1_put_0 : List UInt8 := [27, 184, 0, 145, 154, 0, 5, 2, 172, 42, 180, 0, 22, 27, 46, 156, 0, 9, 42, 4, 182, 0, 134, 172]
abbrev dktX1_put_0 : List UInt8 := dkwX1_put_0 ++ dktX1_put_1
theorem dksX1_put_0 : cX1_put.data.toList.drop 0 = dktX1_put_0 := by decide +kernel
theorem dksX1_put_1 : cX1_put.data.toList.drop 24 = dktX1_put_1 := dk_seg dksX1_put_0 24 rfl rfl
theorem dksX1_put_2 : cX1_put.data.toList.drop 47 = dktX1_put_2 := dk_seg dksX1_put_1 23 rfl rfl
theorem dksX1_put_3 : cX1_put.data.toList.drop 71 = dktX1_put_3 := dk_seg dksX1_put_2 24 rfl rfl
theorem dX1_put_0 : decode cX1_put 0 = .ok (.iload_n 1, 1) := dk_27 (dk_at dksX1_put_0 0 rfl rfl)
theorem dX1_put_1 : decode cX1_put 1 = .ok (.invokestatic 145, 3) := dk_184 0 145 (dk_at dksX1_put_0 1 rfl rfl)
theorem dX1_put_4 : decode cX1_put 4 = .ok (.ifCond .ne 5, 3) := dk_154 0 5 (dk_at dksX1_put_0 4 rfl rfl)
theorem dX1_put_7 : decode cX1_put 7 = .ok (.iconst (-1), 1) := dk_2 (dk_at dksX1_put_0 7 rfl rfl)
theorem dX1_put_8 : decode cX1_put 8 = .ok (.ireturn, 1) := dk_172 (dk_at dksX1_put_0 8 rfl rfl)
theorem dX1_put_9 : decode cX1_put 9 = .ok (.aload_n 0, 1) := dk_42 (dk_at dksX1_put_0 9 rfl rfl)
theorem dX1_put_10 : decode cX1_put 10 = .ok (.getfield 22, 3) := dk_180 0 22 (dk_at dksX1_put_0 10 rfl rfl)
theorem dX1_put_13 : decode cX1_put 13 = .ok (.iload_n 1, 1) := dk_27 (dk_at dksX1_put_0 13 rfl rfl)
theorem dX1_put_14 : decode cX1_put 14 = .ok (.iaload, 1) := dk_46 (dk_at dksX1_put_0 14 rfl rfl)
theorem dX1_put_15 : decode cX1_put 15 = .ok (.ifCond .ge 9, 3) := dk_156 0 9 (dk_at dksX1_put_0 15 rfl rfl)
theorem dX1_put_18 : decode cX1_put 18 = .ok (.aload_n 0, 1) := dk_42 (dk_at dksX1_put_0 18 rfl rfl)
theorem dX1_put_19 : decode cX1_put 19 = .ok (.iconst 1, 1) := dk_4 (dk_at dksX1_put_0 19 rfl rfl)
theorem dX1_put_20 : decode cX1_put 20 = .ok (.invokevirtual 134, 3) := dk_182 0 134 (dk_at dksX1_put_0 20 rfl rfl)
theorem dX1_put_23 : decode cX1_put 23 = .ok (.ireturn, 1) := dk_172 (dk_at dksX1_put_0 23 rfl rfl)
theorem dX1_put_24 : decode cX1_put 24 = .ok (.iload_n 2, 1) := dk_28 (dk_at dksX1_put_1 0 rfl rfl)
theorem dX1_put_25 : decode cX1_put 25 = .ok (.iconst 0, 1) := dk_3 (dk_at dksX1_put_1 1 rfl rfl)
theorem dX1_put_26 : decode cX1_put 26 = .ok (.aload_n 0, 1) := dk_42 (dk_at dksX1_put_1 2 rfl rfl)
theorem dX1_put_27 : decode cX1_put 27 = .ok (.getfield 22, 3) := dk_180 0 22 (dk_at dksX1_put_1 3 rfl rfl)
theorem dX1_put_30 : decode cX1_put 30 = .ok (.iload_n 1, 1) := dk_27 (dk_at dksX1_put_1 6 rfl rfl)
theorem dX1_put_31 : decode cX1_put 31 = .ok (.iaload, 1) := dk_46 (dk_at dksX1_put_1 7 rfl rfl)
theorem dX1_put_32 : decode cX1_put 32 = .ok (.iconst 1, 1) := dk_4 (dk_at dksX1_put_1 8 rfl rfl)
theorem dX1_put_33 : decode cX1_put 33 = .ok (.isub, 1) := dk_100 (dk_at dksX1_put_1 9 rfl rfl)
theorem dX1_put_34 : decode cX1_put 34 = .ok (.invokestatic 117, 3) := dk_184 0 117 (dk_at dksX1_put_1 10 rfl rfl)
theorem dX1_put_37 : decode cX1_put 37 = .ok (.ifCond .ne 9, 3) := dk_154 0 9 (dk_at dksX1_put_1 13 rfl rfl)
theorem dX1_put_40 : decode cX1_put 40 = .ok (.aload_n 0, 1) := dk_42 (dk_at dksX1_put_1 16 rfl rfl)
theorem dX1_put_41 : decode cX1_put 41 = .ok (.iconst 2, 1) := dk_5 (dk_at dksX1_put_1 17 rfl rfl)
theorem dX1_put_42 : decode cX1_put 42 = .ok (.invokevirtual 134, 3) := dk_182 0 134 (dk_at dksX1_put_1 18 rfl rfl)
theorem dX1_put_45 : decode cX1_put 45 = .ok (.ireturn, 1) := dk_172 (dk_at dksX1_put_1 21 rfl rfl)
theorem dX1_put_46 : decode cX1_put 46 = .ok (.aload_n 0, 1) := dk_42 (dk_at dksX1_put_1 22 rfl rfl)
theorem dX1_put_47 : decode cX1_put 47 = .ok (.getfield 25, 3) := dk_180 0 25 (dk_at dksX1_put_2 0 rfl rfl)
theorem dX1_put_50 : decode cX1_put 50 = .ok (.bipush 60, 2) := dk_16 60 (dk_at dksX1_put_2 3 rfl rfl)
theorem dX1_put_52 : decode cX1_put 52 = .ok (.iload_n 1, 1) := dk_27 (dk_at dksX1_put_2 5 rfl rfl)
theorem dX1_put_53 : decode cX1_put 53 = .ok (.imul, 1) := dk_104 (dk_at dksX1_put_2 6 rfl rfl)
theorem dX1_put_54 : decode cX1_put 54 = .ok (.iload_n 2, 1) := dk_28 (dk_at dksX1_put_2 7 rfl rfl)
theorem dX1_put_55 : decode cX1_put 55 = .ok (.iadd, 1) := dk_96 (dk_at dksX1_put_2 8 rfl rfl)
theorem dX1_put_56 : decode cX1_put 56 = .ok (.baload, 1) := dk_51 (dk_at dksX1_put_2 9 rfl rfl)
theorem dX1_put_57 : decode cX1_put 57 = .ok (.istore 4, 2) := dk_54 4 (dk_at dksX1_put_2 10 rfl rfl)
theorem dX1_put_59 : decode cX1_put 59 = .ok (.aload_n 0, 1) := dk_42 (dk_at dksX1_put_2 12 rfl rfl)
theorem dX1_put_60 : decode cX1_put 60 = .ok (.getfield 25, 3) := dk_180 0 25 (dk_at dksX1_put_2 13 rfl rfl)
theorem dX1_put_63 : decode cX1_put 63 = .ok (.bipush 60, 2) := dk_16 60 (dk_at dksX1_put_2 16 rfl rfl)
theorem dX1_put_65 : decode cX1_put 65 = .ok (.iload_n 1, 1) := dk_27 (dk_at dksX1_put_2 18 rfl rfl)
theorem dX1_put_66 : decode cX1_put 66 = .ok (.imul, 1) := dk_104 (dk_at dksX1_put_2 19 rfl rfl)
theorem dX1_put_67 : decode cX1_put 67 = .ok (.iload_n 2, 1) := dk_28 (dk_at dksX1_put_2 20 rfl rfl)
theorem dX1_put_68 : decode cX1_put 68 = .ok (.iadd, 1) := dk_96 (dk_at dksX1_put_2 21 rfl rfl)
theorem dX1_put_69 : decode cX1_put 69 = .ok (.iload_n 3, 1) := dk_29 (dk_at dksX1_put_2 22 rfl rfl)
theorem dX1_put_70 : decode cX1_put 70 = .ok (.i2b, 1) := dk_145 (dk_at dksX1_put_2 23 rfl rfl)
theorem dX1_put_71 : decode cX1_put 71 = .ok (.bastore, 1) := dk_84 (dk_at dksX1_put_3 0 rfl rfl)
theorem dX1_put_72 : decode cX1_put 72 = .ok (.sipush 1000, 3) := dk_17 3 232 (dk_at dksX1_put_3 1 rfl rfl)
theorem dX1_put_75 : decode cX1_put 75 = .ok (.iload 4, 2) := dk_21 4 (dk_at dksX1_put_3 4 rfl rfl)
theorem dX1_put_77 : decode cX1_put 77 = .ok (.iadd, 1) := dk_96 (dk_at dksX1_put_3 6 rfl rfl)
theorem dX1_put_78 : decode cX1_put 78 = .ok (.ireturn, 1) := dk_172 (dk_at dksX1_put_3 7 rfl rfl)
abbrev cX1_letters : ByteArray := prog_8_method_30_code
def yX1_letters : MethodName := ⟨RX1, "letters", "(I)I"⟩
def dkwX1_letters_2 : List UInt8 := [167, 255, 230, 132, 2, 1, 167, 255, 216, 42, 180, 0, 110, 61, 42, 27, 181, 0, 110, 28, 172]
abbrev dktX1_letters_2 : List UInt8 := dkwX1_letters_2 ++ []
def dkwX1_letters_1 : List UInt8 := [180, 0, 29, 28, 46, 162, 0, 22, 42, 28, 29, 182, 0, 148, 27, 161, 0, 6, 16, 252, 172, 132, 3, 1]
abbrev dktX1_letters_1 : List UInt8 := dkwX1_letters_1 ++ dktX1_letters_2
def dkwX1_letters_0 : List UInt8 := [27, 4, 16, 6, 184, 0, 117, 154, 0, 5, 2, 172, 3, 61, 28, 16, 8, 162, 0, 40, 3, 62, 29, 42]
abbrev dktX1_letters_0 : List UInt8 := dkwX1_letters_0 ++ dktX1_letters_1
theorem dksX1_letters_0 : cX1_letters.data.toList.drop 0 = dktX1_letters_0 := by decide +kernel
theorem dksX1_letters_1 : cX1_letters.data.toList.drop 24 = dktX1_letters_1 := dk_seg dksX1_letters_0 24 rfl rfl
theorem dksX1_letters_2 : cX1_letters.data.toList.drop 48 = dktX1_letters_2 := dk_seg dksX1_letters_1 24 rfl rfl
theorem dX1_letters_0 : decode cX1_letters 0 = .ok (.iload_n 1, 1) := dk_27 (dk_at dksX1_letters_0 0 rfl rfl)
theorem dX1_letters_1 : decode cX1_letters 1 = .ok (.iconst 1, 1) := dk_4 (dk_at dksX1_letters_0 1 rfl rfl)
theorem dX1_letters_2 : decode cX1_letters 2 = .ok (.bipush 6, 2) := dk_16 6 (dk_at dksX1_letters_0 2 rfl rfl)
theorem dX1_letters_4 : decode cX1_letters 4 = .ok (.invokestatic 117, 3) := dk_184 0 117 (dk_at dksX1_letters_0 4 rfl rfl)
theorem dX1_letters_7 : decode cX1_letters 7 = .ok (.ifCond .ne 5, 3) := dk_154 0 5 (dk_at dksX1_letters_0 7 rfl rfl)
theorem dX1_letters_10 : decode cX1_letters 10 = .ok (.iconst (-1), 1) := dk_2 (dk_at dksX1_letters_0 10 rfl rfl)
theorem dX1_letters_11 : decode cX1_letters 11 = .ok (.ireturn, 1) := dk_172 (dk_at dksX1_letters_0 11 rfl rfl)
theorem dX1_letters_12 : decode cX1_letters 12 = .ok (.iconst 0, 1) := dk_3 (dk_at dksX1_letters_0 12 rfl rfl)
theorem dX1_letters_13 : decode cX1_letters 13 = .ok (.istore_n 2, 1) := dk_61 (dk_at dksX1_letters_0 13 rfl rfl)
theorem dX1_letters_14 : decode cX1_letters 14 = .ok (.iload_n 2, 1) := dk_28 (dk_at dksX1_letters_0 14 rfl rfl)
theorem dX1_letters_15 : decode cX1_letters 15 = .ok (.bipush 8, 2) := dk_16 8 (dk_at dksX1_letters_0 15 rfl rfl)
theorem dX1_letters_17 : decode cX1_letters 17 = .ok (.if_icmp .ge 40, 3) := dk_162 0 40 (dk_at dksX1_letters_0 17 rfl rfl)
theorem dX1_letters_20 : decode cX1_letters 20 = .ok (.iconst 0, 1) := dk_3 (dk_at dksX1_letters_0 20 rfl rfl)
theorem dX1_letters_21 : decode cX1_letters 21 = .ok (.istore_n 3, 1) := dk_62 (dk_at dksX1_letters_0 21 rfl rfl)
theorem dX1_letters_22 : decode cX1_letters 22 = .ok (.iload_n 3, 1) := dk_29 (dk_at dksX1_letters_0 22 rfl rfl)
theorem dX1_letters_23 : decode cX1_letters 23 = .ok (.aload_n 0, 1) := dk_42 (dk_at dksX1_letters_0 23 rfl rfl)
theorem dX1_letters_24 : decode cX1_letters 24 = .ok (.getfield 29, 3) := dk_180 0 29 (dk_at dksX1_letters_1 0 rfl rfl)
theorem dX1_letters_27 : decode cX1_letters 27 = .ok (.iload_n 2, 1) := dk_28 (dk_at dksX1_letters_1 3 rfl rfl)
theorem dX1_letters_28 : decode cX1_letters 28 = .ok (.iaload, 1) := dk_46 (dk_at dksX1_letters_1 4 rfl rfl)
theorem dX1_letters_29 : decode cX1_letters 29 = .ok (.if_icmp .ge 22, 3) := dk_162 0 22 (dk_at dksX1_letters_1 5 rfl rfl)
theorem dX1_letters_32 : decode cX1_letters 32 = .ok (.aload_n 0, 1) := dk_42 (dk_at dksX1_letters_1 8 rfl rfl)
theorem dX1_letters_33 : decode cX1_letters 33 = .ok (.iload_n 2, 1) := dk_28 (dk_at dksX1_letters_1 9 rfl rfl)
theorem dX1_letters_34 : decode cX1_letters 34 = .ok (.iload_n 3, 1) := dk_29 (dk_at dksX1_letters_1 10 rfl rfl)
theorem dX1_letters_35 : decode cX1_letters 35 = .ok (.invokevirtual 148, 3) := dk_182 0 148 (dk_at dksX1_letters_1 11 rfl rfl)
theorem dX1_letters_38 : decode cX1_letters 38 = .ok (.iload_n 1, 1) := dk_27 (dk_at dksX1_letters_1 14 rfl rfl)
theorem dX1_letters_39 : decode cX1_letters 39 = .ok (.if_icmp .lt 6, 3) := dk_161 0 6 (dk_at dksX1_letters_1 15 rfl rfl)
theorem dX1_letters_42 : decode cX1_letters 42 = .ok (.bipush (-4), 2) := dk_16 252 (dk_at dksX1_letters_1 18 rfl rfl)
theorem dX1_letters_44 : decode cX1_letters 44 = .ok (.ireturn, 1) := dk_172 (dk_at dksX1_letters_1 20 rfl rfl)
theorem dX1_letters_45 : decode cX1_letters 45 = .ok (.iinc 3 1, 3) := dk_132 3 1 (dk_at dksX1_letters_1 21 rfl rfl)
theorem dX1_letters_48 : decode cX1_letters 48 = .ok (.goto (-26), 3) := dk_167 255 230 (dk_at dksX1_letters_2 0 rfl rfl)
theorem dX1_letters_51 : decode cX1_letters 51 = .ok (.iinc 2 1, 3) := dk_132 2 1 (dk_at dksX1_letters_2 3 rfl rfl)
theorem dX1_letters_54 : decode cX1_letters 54 = .ok (.goto (-40), 3) := dk_167 255 216 (dk_at dksX1_letters_2 6 rfl rfl)
theorem dX1_letters_57 : decode cX1_letters 57 = .ok (.aload_n 0, 1) := dk_42 (dk_at dksX1_letters_2 9 rfl rfl)
theorem dX1_letters_58 : decode cX1_letters 58 = .ok (.getfield 110, 3) := dk_180 0 110 (dk_at dksX1_letters_2 10 rfl rfl)
theorem dX1_letters_61 : decode cX1_letters 61 = .ok (.istore_n 2, 1) := dk_61 (dk_at dksX1_letters_2 13 rfl rfl)
theorem dX1_letters_62 : decode cX1_letters 62 = .ok (.aload_n 0, 1) := dk_42 (dk_at dksX1_letters_2 14 rfl rfl)
theorem dX1_letters_63 : decode cX1_letters 63 = .ok (.iload_n 1, 1) := dk_27 (dk_at dksX1_letters_2 15 rfl rfl)
theorem dX1_letters_64 : decode cX1_letters 64 = .ok (.putfield 110, 3) := dk_181 0 110 (dk_at dksX1_letters_2 16 rfl rfl)
theorem dX1_letters_67 : decode cX1_letters 67 = .ok (.iload_n 2, 1) := dk_28 (dk_at dksX1_letters_2 19 rfl rfl)
theorem dX1_letters_68 : decode cX1_letters 68 = .ok (.ireturn, 1) := dk_172 (dk_at dksX1_letters_2 20 rfl rfl)
abbrev cX1_at0 : ByteArray := prog_8_method_28_code
def yX1_at0 : MethodName := ⟨RX1, "at0", "(II)I"⟩
def dkwX1_at0_0 : List UInt8 := [42, 180, 0, 32, 16, 40, 27, 104, 28, 96, 46, 172]
abbrev dktX1_at0_0 : List UInt8 := dkwX1_at0_0 ++ []
theorem dksX1_at0_0 : cX1_at0.data.toList.drop 0 = dktX1_at0_0 := by decide +kernel
theorem dX1_at0_0 : decode cX1_at0 0 = .ok (.aload_n 0, 1) := dk_42 (dk_at dksX1_at0_0 0 rfl rfl)
theorem dX1_at0_1 : decode cX1_at0 1 = .ok (.getfield 32, 3) := dk_180 0 32 (dk_at dksX1_at0_0 1 rfl rfl)
theorem dX1_at0_4 : decode cX1_at0 4 = .ok (.bipush 40, 2) := dk_16 40 (dk_at dksX1_at0_0 4 rfl rfl)
theorem dX1_at0_6 : decode cX1_at0 6 = .ok (.iload_n 1, 1) := dk_27 (dk_at dksX1_at0_0 6 rfl rfl)
theorem dX1_at0_7 : decode cX1_at0 7 = .ok (.imul, 1) := dk_104 (dk_at dksX1_at0_0 7 rfl rfl)
theorem dX1_at0_8 : decode cX1_at0 8 = .ok (.iload_n 2, 1) := dk_28 (dk_at dksX1_at0_0 8 rfl rfl)
theorem dX1_at0_9 : decode cX1_at0 9 = .ok (.iadd, 1) := dk_96 (dk_at dksX1_at0_0 9 rfl rfl)
theorem dX1_at0_10 : decode cX1_at0 10 = .ok (.iaload, 1) := dk_46 (dk_at dksX1_at0_0 10 rfl rfl)
theorem dX1_at0_11 : decode cX1_at0 11 = .ok (.ireturn, 1) := dk_172 (dk_at dksX1_at0_0 11 rfl rfl)
abbrev cX1_word : ByteArray := prog_8_method_33_code
def yX1_word : MethodName := ⟨RX1, "word", "(II)I"⟩
def dkwX1_word_5 : List UInt8 := [3, 182, 0, 160, 172]
abbrev dktX1_word_5 : List UInt8 := dkwX1_word_5 ++ []
def dkwX1_word_4 : List UInt8 := [29, 154, 0, 9, 42, 6, 182, 0, 134, 172, 42, 42, 180, 0, 13, 28, 46, 181, 0, 151, 42, 27, 3, 3]
abbrev dktX1_word_4 : List UInt8 := dkwX1_word_4 ++ dktX1_word_5
def dkwX1_word_3 : List UInt8 := [180, 0, 44, 21, 4, 46, 182, 0, 157, 153, 0, 7, 4, 167, 0, 4, 3, 62, 132, 4, 1, 167, 255, 204]
abbrev dktX1_word_3 : List UInt8 := dkwX1_word_3 ++ dktX1_word_4
def dkwX1_word_2 : List UInt8 := [162, 0, 47, 42, 180, 0, 44, 21, 4, 42, 28, 21, 4, 182, 0, 138, 79, 29, 153, 0, 21, 42, 42]
abbrev dktX1_word_2 : List UInt8 := dkwX1_word_2 ++ dktX1_word_3
def dkwX1_word_1 : List UInt8 := [156, 0, 9, 42, 4, 182, 0, 134, 172, 4, 62, 3, 54, 4, 21, 4, 42, 180, 0, 13, 28, 46]
abbrev dktX1_word_1 : List UInt8 := dkwX1_word_1 ++ dktX1_word_2
def dkwX1_word_0 : List UInt8 := [27, 184, 0, 154, 153, 0, 10, 28, 184, 0, 130, 154, 0, 5, 2, 172, 42, 180, 0, 13, 28, 46]
abbrev dktX1_word_0 : List UInt8 := dkwX1_word_0 ++ dktX1_word_1
theorem dksX1_word_0 : cX1_word.data.toList.drop 0 = dktX1_word_0 := by decide +kernel
theorem dksX1_word_1 : cX1_word.data.toList.drop 22 = dktX1_word_1 := dk_seg dksX1_word_0 22 rfl rfl
theorem dksX1_word_2 : cX1_word.data.toList.drop 44 = dktX1_word_2 := dk_seg dksX1_word_1 22 rfl rfl
theorem dksX1_word_3 : cX1_word.data.toList.drop 67 = dktX1_word_3 := dk_seg dksX1_word_2 23 rfl rfl
theorem dksX1_word_4 : cX1_word.data.toList.drop 91 = dktX1_word_4 := dk_seg dksX1_word_3 24 rfl rfl
theorem dksX1_word_5 : cX1_word.data.toList.drop 115 = dktX1_word_5 := dk_seg dksX1_word_4 24 rfl rfl
theorem dX1_word_0 : decode cX1_word 0 = .ok (.iload_n 1, 1) := dk_27 (dk_at dksX1_word_0 0 rfl rfl)
theorem dX1_word_1 : decode cX1_word 1 = .ok (.invokestatic 154, 3) := dk_184 0 154 (dk_at dksX1_word_0 1 rfl rfl)
theorem dX1_word_4 : decode cX1_word 4 = .ok (.ifCond .eq 10, 3) := dk_153 0 10 (dk_at dksX1_word_0 4 rfl rfl)
theorem dX1_word_7 : decode cX1_word 7 = .ok (.iload_n 2, 1) := dk_28 (dk_at dksX1_word_0 7 rfl rfl)
theorem dX1_word_8 : decode cX1_word 8 = .ok (.invokestatic 130, 3) := dk_184 0 130 (dk_at dksX1_word_0 8 rfl rfl)
theorem dX1_word_11 : decode cX1_word 11 = .ok (.ifCond .ne 5, 3) := dk_154 0 5 (dk_at dksX1_word_0 11 rfl rfl)
theorem dX1_word_14 : decode cX1_word 14 = .ok (.iconst (-1), 1) := dk_2 (dk_at dksX1_word_0 14 rfl rfl)
theorem dX1_word_15 : decode cX1_word 15 = .ok (.ireturn, 1) := dk_172 (dk_at dksX1_word_0 15 rfl rfl)
theorem dX1_word_16 : decode cX1_word 16 = .ok (.aload_n 0, 1) := dk_42 (dk_at dksX1_word_0 16 rfl rfl)
theorem dX1_word_17 : decode cX1_word 17 = .ok (.getfield 13, 3) := dk_180 0 13 (dk_at dksX1_word_0 17 rfl rfl)
theorem dX1_word_20 : decode cX1_word 20 = .ok (.iload_n 2, 1) := dk_28 (dk_at dksX1_word_0 20 rfl rfl)
theorem dX1_word_21 : decode cX1_word 21 = .ok (.iaload, 1) := dk_46 (dk_at dksX1_word_0 21 rfl rfl)
theorem dX1_word_22 : decode cX1_word 22 = .ok (.ifCond .ge 9, 3) := dk_156 0 9 (dk_at dksX1_word_1 0 rfl rfl)
theorem dX1_word_25 : decode cX1_word 25 = .ok (.aload_n 0, 1) := dk_42 (dk_at dksX1_word_1 3 rfl rfl)
theorem dX1_word_26 : decode cX1_word 26 = .ok (.iconst 1, 1) := dk_4 (dk_at dksX1_word_1 4 rfl rfl)
theorem dX1_word_27 : decode cX1_word 27 = .ok (.invokevirtual 134, 3) := dk_182 0 134 (dk_at dksX1_word_1 5 rfl rfl)
theorem dX1_word_30 : decode cX1_word 30 = .ok (.ireturn, 1) := dk_172 (dk_at dksX1_word_1 8 rfl rfl)
theorem dX1_word_31 : decode cX1_word 31 = .ok (.iconst 1, 1) := dk_4 (dk_at dksX1_word_1 9 rfl rfl)
theorem dX1_word_32 : decode cX1_word 32 = .ok (.istore_n 3, 1) := dk_62 (dk_at dksX1_word_1 10 rfl rfl)
theorem dX1_word_33 : decode cX1_word 33 = .ok (.iconst 0, 1) := dk_3 (dk_at dksX1_word_1 11 rfl rfl)
theorem dX1_word_34 : decode cX1_word 34 = .ok (.istore 4, 2) := dk_54 4 (dk_at dksX1_word_1 12 rfl rfl)
theorem dX1_word_36 : decode cX1_word 36 = .ok (.iload 4, 2) := dk_21 4 (dk_at dksX1_word_1 14 rfl rfl)
theorem dX1_word_38 : decode cX1_word 38 = .ok (.aload_n 0, 1) := dk_42 (dk_at dksX1_word_1 16 rfl rfl)
theorem dX1_word_39 : decode cX1_word 39 = .ok (.getfield 13, 3) := dk_180 0 13 (dk_at dksX1_word_1 17 rfl rfl)
theorem dX1_word_42 : decode cX1_word 42 = .ok (.iload_n 2, 1) := dk_28 (dk_at dksX1_word_1 20 rfl rfl)
theorem dX1_word_43 : decode cX1_word 43 = .ok (.iaload, 1) := dk_46 (dk_at dksX1_word_1 21 rfl rfl)
theorem dX1_word_44 : decode cX1_word 44 = .ok (.if_icmp .ge 47, 3) := dk_162 0 47 (dk_at dksX1_word_2 0 rfl rfl)
theorem dX1_word_47 : decode cX1_word 47 = .ok (.aload_n 0, 1) := dk_42 (dk_at dksX1_word_2 3 rfl rfl)
theorem dX1_word_48 : decode cX1_word 48 = .ok (.getfield 44, 3) := dk_180 0 44 (dk_at dksX1_word_2 4 rfl rfl)
theorem dX1_word_51 : decode cX1_word 51 = .ok (.iload 4, 2) := dk_21 4 (dk_at dksX1_word_2 7 rfl rfl)
theorem dX1_word_53 : decode cX1_word 53 = .ok (.aload_n 0, 1) := dk_42 (dk_at dksX1_word_2 9 rfl rfl)
theorem dX1_word_54 : decode cX1_word 54 = .ok (.iload_n 2, 1) := dk_28 (dk_at dksX1_word_2 10 rfl rfl)
theorem dX1_word_55 : decode cX1_word 55 = .ok (.iload 4, 2) := dk_21 4 (dk_at dksX1_word_2 11 rfl rfl)
theorem dX1_word_57 : decode cX1_word 57 = .ok (.invokevirtual 138, 3) := dk_182 0 138 (dk_at dksX1_word_2 13 rfl rfl)
theorem dX1_word_60 : decode cX1_word 60 = .ok (.iastore, 1) := dk_79 (dk_at dksX1_word_2 16 rfl rfl)
theorem dX1_word_61 : decode cX1_word 61 = .ok (.iload_n 3, 1) := dk_29 (dk_at dksX1_word_2 17 rfl rfl)
theorem dX1_word_62 : decode cX1_word 62 = .ok (.ifCond .eq 21, 3) := dk_153 0 21 (dk_at dksX1_word_2 18 rfl rfl)
theorem dX1_word_65 : decode cX1_word 65 = .ok (.aload_n 0, 1) := dk_42 (dk_at dksX1_word_2 21 rfl rfl)
theorem dX1_word_66 : decode cX1_word 66 = .ok (.aload_n 0, 1) := dk_42 (dk_at dksX1_word_2 22 rfl rfl)
theorem dX1_word_67 : decode cX1_word 67 = .ok (.getfield 44, 3) := dk_180 0 44 (dk_at dksX1_word_3 0 rfl rfl)
theorem dX1_word_70 : decode cX1_word 70 = .ok (.iload 4, 2) := dk_21 4 (dk_at dksX1_word_3 3 rfl rfl)
theorem dX1_word_72 : decode cX1_word 72 = .ok (.iaload, 1) := dk_46 (dk_at dksX1_word_3 5 rfl rfl)
theorem dX1_word_73 : decode cX1_word 73 = .ok (.invokevirtual 157, 3) := dk_182 0 157 (dk_at dksX1_word_3 6 rfl rfl)
theorem dX1_word_76 : decode cX1_word 76 = .ok (.ifCond .eq 7, 3) := dk_153 0 7 (dk_at dksX1_word_3 9 rfl rfl)
theorem dX1_word_79 : decode cX1_word 79 = .ok (.iconst 1, 1) := dk_4 (dk_at dksX1_word_3 12 rfl rfl)
theorem dX1_word_80 : decode cX1_word 80 = .ok (.goto 4, 3) := dk_167 0 4 (dk_at dksX1_word_3 13 rfl rfl)
theorem dX1_word_83 : decode cX1_word 83 = .ok (.iconst 0, 1) := dk_3 (dk_at dksX1_word_3 16 rfl rfl)
theorem dX1_word_84 : decode cX1_word 84 = .ok (.istore_n 3, 1) := dk_62 (dk_at dksX1_word_3 17 rfl rfl)
theorem dX1_word_85 : decode cX1_word 85 = .ok (.iinc 4 1, 3) := dk_132 4 1 (dk_at dksX1_word_3 18 rfl rfl)
theorem dX1_word_88 : decode cX1_word 88 = .ok (.goto (-52), 3) := dk_167 255 204 (dk_at dksX1_word_3 21 rfl rfl)
theorem dX1_word_91 : decode cX1_word 91 = .ok (.iload_n 3, 1) := dk_29 (dk_at dksX1_word_4 0 rfl rfl)
theorem dX1_word_92 : decode cX1_word 92 = .ok (.ifCond .ne 9, 3) := dk_154 0 9 (dk_at dksX1_word_4 1 rfl rfl)
theorem dX1_word_95 : decode cX1_word 95 = .ok (.aload_n 0, 1) := dk_42 (dk_at dksX1_word_4 4 rfl rfl)
theorem dX1_word_96 : decode cX1_word 96 = .ok (.iconst 3, 1) := dk_6 (dk_at dksX1_word_4 5 rfl rfl)
theorem dX1_word_97 : decode cX1_word 97 = .ok (.invokevirtual 134, 3) := dk_182 0 134 (dk_at dksX1_word_4 6 rfl rfl)
theorem dX1_word_100 : decode cX1_word 100 = .ok (.ireturn, 1) := dk_172 (dk_at dksX1_word_4 9 rfl rfl)
theorem dX1_word_101 : decode cX1_word 101 = .ok (.aload_n 0, 1) := dk_42 (dk_at dksX1_word_4 10 rfl rfl)
theorem dX1_word_102 : decode cX1_word 102 = .ok (.aload_n 0, 1) := dk_42 (dk_at dksX1_word_4 11 rfl rfl)
theorem dX1_word_103 : decode cX1_word 103 = .ok (.getfield 13, 3) := dk_180 0 13 (dk_at dksX1_word_4 12 rfl rfl)
theorem dX1_word_106 : decode cX1_word 106 = .ok (.iload_n 2, 1) := dk_28 (dk_at dksX1_word_4 15 rfl rfl)
theorem dX1_word_107 : decode cX1_word 107 = .ok (.iaload, 1) := dk_46 (dk_at dksX1_word_4 16 rfl rfl)
theorem dX1_word_108 : decode cX1_word 108 = .ok (.putfield 151, 3) := dk_181 0 151 (dk_at dksX1_word_4 17 rfl rfl)
theorem dX1_word_111 : decode cX1_word 111 = .ok (.aload_n 0, 1) := dk_42 (dk_at dksX1_word_4 20 rfl rfl)
theorem dX1_word_112 : decode cX1_word 112 = .ok (.iload_n 1, 1) := dk_27 (dk_at dksX1_word_4 21 rfl rfl)
theorem dX1_word_113 : decode cX1_word 113 = .ok (.iconst 0, 1) := dk_3 (dk_at dksX1_word_4 22 rfl rfl)
theorem dX1_word_114 : decode cX1_word 114 = .ok (.iconst 0, 1) := dk_3 (dk_at dksX1_word_4 23 rfl rfl)
theorem dX1_word_115 : decode cX1_word 115 = .ok (.iconst 0, 1) := dk_3 (dk_at dksX1_word_5 0 rfl rfl)
theorem dX1_word_116 : decode cX1_word 116 = .ok (.invokevirtual 160, 3) := dk_182 0 160 (dk_at dksX1_word_5 1 rfl rfl)
theorem dX1_word_119 : decode cX1_word 119 = .ok (.ireturn, 1) := dk_172 (dk_at dksX1_word_5 4 rfl rfl)
abbrev cX1_isWord : ByteArray := prog_8_method_26_code
def yX1_isWord : MethodName := ⟨RX1, "isWord", "(I)Z"⟩
def dkwX1_isWord_0 : List UInt8 := [26, 3, 16, 7, 184, 0, 117, 172]
abbrev dktX1_isWord_0 : List UInt8 := dkwX1_isWord_0 ++ []
theorem dksX1_isWord_0 : cX1_isWord.data.toList.drop 0 = dktX1_isWord_0 := by decide +kernel
theorem dX1_isWord_0 : decode cX1_isWord 0 = .ok (.iload_n 0, 1) := dk_26 (dk_at dksX1_isWord_0 0 rfl rfl)
theorem dX1_isWord_1 : decode cX1_isWord 1 = .ok (.iconst 0, 1) := dk_3 (dk_at dksX1_isWord_0 1 rfl rfl)
theorem dX1_isWord_2 : decode cX1_isWord 2 = .ok (.bipush 7, 2) := dk_16 7 (dk_at dksX1_isWord_0 2 rfl rfl)
theorem dX1_isWord_4 : decode cX1_isWord 4 = .ok (.invokestatic 117, 3) := dk_184 0 117 (dk_at dksX1_isWord_0 4 rfl rfl)
theorem dX1_isWord_7 : decode cX1_isWord 7 = .ok (.ireturn, 1) := dk_172 (dk_at dksX1_isWord_0 7 rfl rfl)
abbrev cX1_isLetter : ByteArray := prog_8_method_29_code
def yX1_isLetter : MethodName := ⟨RX1, "isLetter", "(I)Z"⟩
def dkwX1_isLetter_0 : List UInt8 := [27, 3, 42, 180, 0, 110, 4, 100, 184, 0, 117, 172]
abbrev dktX1_isLetter_0 : List UInt8 := dkwX1_isLetter_0 ++ []
theorem dksX1_isLetter_0 : cX1_isLetter.data.toList.drop 0 = dktX1_isLetter_0 := by decide +kernel
theorem dX1_isLetter_0 : decode cX1_isLetter 0 = .ok (.iload_n 1, 1) := dk_27 (dk_at dksX1_isLetter_0 0 rfl rfl)
theorem dX1_isLetter_1 : decode cX1_isLetter 1 = .ok (.iconst 0, 1) := dk_3 (dk_at dksX1_isLetter_0 1 rfl rfl)
theorem dX1_isLetter_2 : decode cX1_isLetter 2 = .ok (.aload_n 0, 1) := dk_42 (dk_at dksX1_isLetter_0 2 rfl rfl)
theorem dX1_isLetter_3 : decode cX1_isLetter 3 = .ok (.getfield 110, 3) := dk_180 0 110 (dk_at dksX1_isLetter_0 3 rfl rfl)
theorem dX1_isLetter_6 : decode cX1_isLetter 6 = .ok (.iconst 1, 1) := dk_4 (dk_at dksX1_isLetter_0 6 rfl rfl)
theorem dX1_isLetter_7 : decode cX1_isLetter 7 = .ok (.isub, 1) := dk_100 (dk_at dksX1_isLetter_0 7 rfl rfl)
theorem dX1_isLetter_8 : decode cX1_isLetter 8 = .ok (.invokestatic 117, 3) := dk_184 0 117 (dk_at dksX1_isLetter_0 8 rfl rfl)
theorem dX1_isLetter_11 : decode cX1_isLetter 11 = .ok (.ireturn, 1) := dk_172 (dk_at dksX1_isLetter_0 11 rfl rfl)
abbrev cX1_comes : ByteArray := prog_8_method_31_code
def yX1_comes : MethodName := ⟨RX1, "comes", "(IIII)I"⟩
def dkwX1_comes_3 : List UInt8 := [180, 0, 151, 172]
abbrev dktX1_comes_3 : List UInt8 := dkwX1_comes_3 ++ []
def dkwX1_comes_2 : List UInt8 := [42, 180, 0, 35, 27, 28, 79, 42, 180, 0, 38, 27, 29, 79, 42, 180, 0, 41, 27, 21, 4, 79, 42]
abbrev dktX1_comes_2 : List UInt8 := dkwX1_comes_2 ++ dktX1_comes_3
def dkwX1_comes_1 : List UInt8 := [180, 0, 32, 16, 40, 27, 104, 21, 5, 96, 42, 180, 0, 44, 21, 5, 46, 79, 132, 5, 1, 167, 255, 225]
abbrev dktX1_comes_1 : List UInt8 := dkwX1_comes_1 ++ dktX1_comes_2
def dkwX1_comes_0 : List UInt8 := [42, 180, 0, 29, 27, 42, 180, 0, 151, 79, 3, 54, 5, 21, 5, 42, 180, 0, 151, 162, 0, 28, 42]
abbrev dktX1_comes_0 : List UInt8 := dkwX1_comes_0 ++ dktX1_comes_1
theorem dksX1_comes_0 : cX1_comes.data.toList.drop 0 = dktX1_comes_0 := by decide +kernel
theorem dksX1_comes_1 : cX1_comes.data.toList.drop 23 = dktX1_comes_1 := dk_seg dksX1_comes_0 23 rfl rfl
theorem dksX1_comes_2 : cX1_comes.data.toList.drop 47 = dktX1_comes_2 := dk_seg dksX1_comes_1 24 rfl rfl
theorem dksX1_comes_3 : cX1_comes.data.toList.drop 70 = dktX1_comes_3 := dk_seg dksX1_comes_2 23 rfl rfl
theorem dX1_comes_0 : decode cX1_comes 0 = .ok (.aload_n 0, 1) := dk_42 (dk_at dksX1_comes_0 0 rfl rfl)
theorem dX1_comes_1 : decode cX1_comes 1 = .ok (.getfield 29, 3) := dk_180 0 29 (dk_at dksX1_comes_0 1 rfl rfl)
theorem dX1_comes_4 : decode cX1_comes 4 = .ok (.iload_n 1, 1) := dk_27 (dk_at dksX1_comes_0 4 rfl rfl)
theorem dX1_comes_5 : decode cX1_comes 5 = .ok (.aload_n 0, 1) := dk_42 (dk_at dksX1_comes_0 5 rfl rfl)
theorem dX1_comes_6 : decode cX1_comes 6 = .ok (.getfield 151, 3) := dk_180 0 151 (dk_at dksX1_comes_0 6 rfl rfl)
theorem dX1_comes_9 : decode cX1_comes 9 = .ok (.iastore, 1) := dk_79 (dk_at dksX1_comes_0 9 rfl rfl)
theorem dX1_comes_10 : decode cX1_comes 10 = .ok (.iconst 0, 1) := dk_3 (dk_at dksX1_comes_0 10 rfl rfl)
theorem dX1_comes_11 : decode cX1_comes 11 = .ok (.istore 5, 2) := dk_54 5 (dk_at dksX1_comes_0 11 rfl rfl)
theorem dX1_comes_13 : decode cX1_comes 13 = .ok (.iload 5, 2) := dk_21 5 (dk_at dksX1_comes_0 13 rfl rfl)
theorem dX1_comes_15 : decode cX1_comes 15 = .ok (.aload_n 0, 1) := dk_42 (dk_at dksX1_comes_0 15 rfl rfl)
theorem dX1_comes_16 : decode cX1_comes 16 = .ok (.getfield 151, 3) := dk_180 0 151 (dk_at dksX1_comes_0 16 rfl rfl)
theorem dX1_comes_19 : decode cX1_comes 19 = .ok (.if_icmp .ge 28, 3) := dk_162 0 28 (dk_at dksX1_comes_0 19 rfl rfl)
theorem dX1_comes_22 : decode cX1_comes 22 = .ok (.aload_n 0, 1) := dk_42 (dk_at dksX1_comes_0 22 rfl rfl)
theorem dX1_comes_23 : decode cX1_comes 23 = .ok (.getfield 32, 3) := dk_180 0 32 (dk_at dksX1_comes_1 0 rfl rfl)
theorem dX1_comes_26 : decode cX1_comes 26 = .ok (.bipush 40, 2) := dk_16 40 (dk_at dksX1_comes_1 3 rfl rfl)
theorem dX1_comes_28 : decode cX1_comes 28 = .ok (.iload_n 1, 1) := dk_27 (dk_at dksX1_comes_1 5 rfl rfl)
theorem dX1_comes_29 : decode cX1_comes 29 = .ok (.imul, 1) := dk_104 (dk_at dksX1_comes_1 6 rfl rfl)
theorem dX1_comes_30 : decode cX1_comes 30 = .ok (.iload 5, 2) := dk_21 5 (dk_at dksX1_comes_1 7 rfl rfl)
theorem dX1_comes_32 : decode cX1_comes 32 = .ok (.iadd, 1) := dk_96 (dk_at dksX1_comes_1 9 rfl rfl)
theorem dX1_comes_33 : decode cX1_comes 33 = .ok (.aload_n 0, 1) := dk_42 (dk_at dksX1_comes_1 10 rfl rfl)
theorem dX1_comes_34 : decode cX1_comes 34 = .ok (.getfield 44, 3) := dk_180 0 44 (dk_at dksX1_comes_1 11 rfl rfl)
theorem dX1_comes_37 : decode cX1_comes 37 = .ok (.iload 5, 2) := dk_21 5 (dk_at dksX1_comes_1 14 rfl rfl)
theorem dX1_comes_39 : decode cX1_comes 39 = .ok (.iaload, 1) := dk_46 (dk_at dksX1_comes_1 16 rfl rfl)
theorem dX1_comes_40 : decode cX1_comes 40 = .ok (.iastore, 1) := dk_79 (dk_at dksX1_comes_1 17 rfl rfl)
theorem dX1_comes_41 : decode cX1_comes 41 = .ok (.iinc 5 1, 3) := dk_132 5 1 (dk_at dksX1_comes_1 18 rfl rfl)
theorem dX1_comes_44 : decode cX1_comes 44 = .ok (.goto (-31), 3) := dk_167 255 225 (dk_at dksX1_comes_1 21 rfl rfl)
theorem dX1_comes_47 : decode cX1_comes 47 = .ok (.aload_n 0, 1) := dk_42 (dk_at dksX1_comes_2 0 rfl rfl)
theorem dX1_comes_48 : decode cX1_comes 48 = .ok (.getfield 35, 3) := dk_180 0 35 (dk_at dksX1_comes_2 1 rfl rfl)
theorem dX1_comes_51 : decode cX1_comes 51 = .ok (.iload_n 1, 1) := dk_27 (dk_at dksX1_comes_2 4 rfl rfl)
theorem dX1_comes_52 : decode cX1_comes 52 = .ok (.iload_n 2, 1) := dk_28 (dk_at dksX1_comes_2 5 rfl rfl)
theorem dX1_comes_53 : decode cX1_comes 53 = .ok (.iastore, 1) := dk_79 (dk_at dksX1_comes_2 6 rfl rfl)
theorem dX1_comes_54 : decode cX1_comes 54 = .ok (.aload_n 0, 1) := dk_42 (dk_at dksX1_comes_2 7 rfl rfl)
theorem dX1_comes_55 : decode cX1_comes 55 = .ok (.getfield 38, 3) := dk_180 0 38 (dk_at dksX1_comes_2 8 rfl rfl)
theorem dX1_comes_58 : decode cX1_comes 58 = .ok (.iload_n 1, 1) := dk_27 (dk_at dksX1_comes_2 11 rfl rfl)
theorem dX1_comes_59 : decode cX1_comes 59 = .ok (.iload_n 3, 1) := dk_29 (dk_at dksX1_comes_2 12 rfl rfl)
theorem dX1_comes_60 : decode cX1_comes 60 = .ok (.iastore, 1) := dk_79 (dk_at dksX1_comes_2 13 rfl rfl)
theorem dX1_comes_61 : decode cX1_comes 61 = .ok (.aload_n 0, 1) := dk_42 (dk_at dksX1_comes_2 14 rfl rfl)
theorem dX1_comes_62 : decode cX1_comes 62 = .ok (.getfield 41, 3) := dk_180 0 41 (dk_at dksX1_comes_2 15 rfl rfl)
theorem dX1_comes_65 : decode cX1_comes 65 = .ok (.iload_n 1, 1) := dk_27 (dk_at dksX1_comes_2 18 rfl rfl)
theorem dX1_comes_66 : decode cX1_comes 66 = .ok (.iload 4, 2) := dk_21 4 (dk_at dksX1_comes_2 19 rfl rfl)
theorem dX1_comes_68 : decode cX1_comes 68 = .ok (.iastore, 1) := dk_79 (dk_at dksX1_comes_2 21 rfl rfl)
theorem dX1_comes_69 : decode cX1_comes 69 = .ok (.aload_n 0, 1) := dk_42 (dk_at dksX1_comes_2 22 rfl rfl)
theorem dX1_comes_70 : decode cX1_comes 70 = .ok (.getfield 151, 3) := dk_180 0 151 (dk_at dksX1_comes_3 0 rfl rfl)
theorem dX1_comes_73 : decode cX1_comes 73 = .ok (.ireturn, 1) := dk_172 (dk_at dksX1_comes_3 3 rfl rfl)
abbrev cX1_fault : ByteArray := prog_8_method_38_code
def yX1_fault : MethodName := ⟨RX1, "fault", "(I)I"⟩
def dkwX1_fault_1 : List UInt8 := [167, 0, 8, 42, 27, 182, 0, 182, 172]
abbrev dktX1_fault_1 : List UInt8 := dkwX1_fault_1 ++ []
def dkwX1_fault_0 : List UInt8 := [27, 184, 0, 145, 154, 0, 5, 2, 172, 42, 180, 0, 22, 27, 46, 156, 0, 11, 42, 4, 182, 0, 134]
abbrev dktX1_fault_0 : List UInt8 := dkwX1_fault_0 ++ dktX1_fault_1
theorem dksX1_fault_0 : cX1_fault.data.toList.drop 0 = dktX1_fault_0 := by decide +kernel
theorem dksX1_fault_1 : cX1_fault.data.toList.drop 23 = dktX1_fault_1 := dk_seg dksX1_fault_0 23 rfl rfl
theorem dX1_fault_0 : decode cX1_fault 0 = .ok (.iload_n 1, 1) := dk_27 (dk_at dksX1_fault_0 0 rfl rfl)
theorem dX1_fault_1 : decode cX1_fault 1 = .ok (.invokestatic 145, 3) := dk_184 0 145 (dk_at dksX1_fault_0 1 rfl rfl)
theorem dX1_fault_4 : decode cX1_fault 4 = .ok (.ifCond .ne 5, 3) := dk_154 0 5 (dk_at dksX1_fault_0 4 rfl rfl)
theorem dX1_fault_7 : decode cX1_fault 7 = .ok (.iconst (-1), 1) := dk_2 (dk_at dksX1_fault_0 7 rfl rfl)
theorem dX1_fault_8 : decode cX1_fault 8 = .ok (.ireturn, 1) := dk_172 (dk_at dksX1_fault_0 8 rfl rfl)
theorem dX1_fault_9 : decode cX1_fault 9 = .ok (.aload_n 0, 1) := dk_42 (dk_at dksX1_fault_0 9 rfl rfl)
theorem dX1_fault_10 : decode cX1_fault 10 = .ok (.getfield 22, 3) := dk_180 0 22 (dk_at dksX1_fault_0 10 rfl rfl)
theorem dX1_fault_13 : decode cX1_fault 13 = .ok (.iload_n 1, 1) := dk_27 (dk_at dksX1_fault_0 13 rfl rfl)
theorem dX1_fault_14 : decode cX1_fault 14 = .ok (.iaload, 1) := dk_46 (dk_at dksX1_fault_0 14 rfl rfl)
theorem dX1_fault_15 : decode cX1_fault 15 = .ok (.ifCond .ge 11, 3) := dk_156 0 11 (dk_at dksX1_fault_0 15 rfl rfl)
theorem dX1_fault_18 : decode cX1_fault 18 = .ok (.aload_n 0, 1) := dk_42 (dk_at dksX1_fault_0 18 rfl rfl)
theorem dX1_fault_19 : decode cX1_fault 19 = .ok (.iconst 1, 1) := dk_4 (dk_at dksX1_fault_0 19 rfl rfl)
theorem dX1_fault_20 : decode cX1_fault 20 = .ok (.invokevirtual 134, 3) := dk_182 0 134 (dk_at dksX1_fault_0 20 rfl rfl)
theorem dX1_fault_23 : decode cX1_fault 23 = .ok (.goto 8, 3) := dk_167 0 8 (dk_at dksX1_fault_1 0 rfl rfl)
theorem dX1_fault_26 : decode cX1_fault 26 = .ok (.aload_n 0, 1) := dk_42 (dk_at dksX1_fault_1 3 rfl rfl)
theorem dX1_fault_27 : decode cX1_fault 27 = .ok (.iload_n 1, 1) := dk_27 (dk_at dksX1_fault_1 4 rfl rfl)
theorem dX1_fault_28 : decode cX1_fault 28 = .ok (.invokevirtual 182, 3) := dk_182 0 182 (dk_at dksX1_fault_1 5 rfl rfl)
theorem dX1_fault_31 : decode cX1_fault 31 = .ok (.ireturn, 1) := dk_172 (dk_at dksX1_fault_1 8 rfl rfl)
abbrev cX1_faultOf : ByteArray := prog_8_method_37_code
def yX1_faultOf : MethodName := ⟨RX1, "faultOf", "(I)I"⟩
def dkwX1_faultOf_11 : List UInt8 := [180, 0, 22, 27, 46, 161, 0, 7, 28, 158, 0, 7, 29, 167, 0, 5, 16, 247, 172]
abbrev dktX1_faultOf_11 : List UInt8 := dkwX1_faultOf_11 ++ []
def dkwX1_faultOf_10 : List UInt8 := [167, 255, 61, 42, 27, 29, 182, 0, 172, 16, 32, 160, 0, 9, 132, 3, 1, 167, 255, 242, 29, 42]
abbrev dktX1_faultOf_10 : List UInt8 := dkwX1_faultOf_10 ++ dktX1_faultOf_11
def dkwX1_faultOf_9 : List UInt8 := [167, 0, 22, 21, 5, 16, 32, 160, 0, 13, 28, 154, 0, 9, 3, 54, 4, 167, 0, 5, 29, 172]
abbrev dktX1_faultOf_9 : List UInt8 := dkwX1_faultOf_9 ++ dktX1_faultOf_10
def dkwX1_faultOf_8 : List UInt8 := [29, 21, 7, 158, 0, 7, 4, 167, 0, 4, 3, 96, 62, 42, 21, 6, 21, 7, 4, 100, 182, 0, 178]
abbrev dktX1_faultOf_8 : List UInt8 := dkwX1_faultOf_8 ++ dktX1_faultOf_9
def dkwX1_faultOf_7 : List UInt8 := [182, 0, 168, 42, 180, 0, 50, 28, 92, 46, 4, 96, 79, 132, 3, 1, 42, 27, 29, 182, 0, 175, 54, 7]
abbrev dktX1_faultOf_7 : List UInt8 := dkwX1_faultOf_7 ++ dktX1_faultOf_8
def dkwX1_faultOf_6 : List UInt8 := [160, 0, 17, 42, 180, 0, 47, 28, 46, 54, 6, 132, 2, 255, 167, 0, 12, 42, 21, 5, 16, 97, 100]
abbrev dktX1_faultOf_6 : List UInt8 := dkwX1_faultOf_6 ++ dktX1_faultOf_7
def dkwX1_faultOf_5 : List UInt8 := [180, 0, 50, 28, 46, 157, 0, 15, 42, 21, 5, 16, 97, 100, 182, 0, 157, 153, 0, 80, 21, 5, 16, 41]
abbrev dktX1_faultOf_5 : List UInt8 := dkwX1_faultOf_5 ++ dktX1_faultOf_6
def dkwX1_faultOf_4 : List UInt8 := [180, 0, 50, 28, 3, 79, 132, 3, 1, 167, 0, 131, 21, 5, 16, 41, 160, 0, 16, 28, 158, 0, 12, 42]
abbrev dktX1_faultOf_4 : List UInt8 := dkwX1_faultOf_4 ++ dktX1_faultOf_5
def dkwX1_faultOf_3 : List UInt8 := [16, 40, 160, 0, 34, 28, 7, 162, 0, 29, 132, 2, 1, 42, 180, 0, 47, 28, 42, 180, 0, 151, 79, 42]
abbrev dktX1_faultOf_3 : List UInt8 := dkwX1_faultOf_3 ++ dktX1_faultOf_4
def dkwX1_faultOf_2 : List UInt8 := [162, 0, 191, 21, 4, 153, 0, 186, 42, 27, 29, 182, 0, 172, 54, 5, 42, 180, 0, 151, 54, 6, 21, 5]
abbrev dktX1_faultOf_2 : List UInt8 := dkwX1_faultOf_2 ++ dktX1_faultOf_3
def dkwX1_faultOf_1 : List UInt8 := [182, 0, 172, 16, 32, 160, 0, 9, 132, 3, 1, 167, 255, 242, 4, 54, 4, 29, 42, 180, 0, 22, 27, 46]
abbrev dktX1_faultOf_1 : List UInt8 := dkwX1_faultOf_1 ++ dktX1_faultOf_2
def dkwX1_faultOf_0 : List UInt8 := [42, 3, 181, 0, 151, 42, 3, 181, 0, 164, 3, 61, 42, 180, 0, 50, 3, 3, 79, 3, 62, 42, 27, 29]
abbrev dktX1_faultOf_0 : List UInt8 := dkwX1_faultOf_0 ++ dktX1_faultOf_1
theorem dksX1_faultOf_0 : cX1_faultOf.data.toList.drop 0 = dktX1_faultOf_0 := by decide +kernel
theorem dksX1_faultOf_1 : cX1_faultOf.data.toList.drop 24 = dktX1_faultOf_1 := dk_seg dksX1_faultOf_0 24 rfl rfl
theorem dksX1_faultOf_2 : cX1_faultOf.data.toList.drop 48 = dktX1_faultOf_2 := dk_seg dksX1_faultOf_1 24 rfl rfl
theorem dksX1_faultOf_3 : cX1_faultOf.data.toList.drop 72 = dktX1_faultOf_3 := dk_seg dksX1_faultOf_2 24 rfl rfl
theorem dksX1_faultOf_4 : cX1_faultOf.data.toList.drop 96 = dktX1_faultOf_4 := dk_seg dksX1_faultOf_3 24 rfl rfl
theorem dksX1_faultOf_5 : cX1_faultOf.data.toList.drop 120 = dktX1_faultOf_5 := dk_seg dksX1_faultOf_4 24 rfl rfl
theorem dksX1_faultOf_6 : cX1_faultOf.data.toList.drop 144 = dktX1_faultOf_6 := dk_seg dksX1_faultOf_5 24 rfl rfl
theorem dksX1_faultOf_7 : cX1_faultOf.data.toList.drop 167 = dktX1_faultOf_7 := dk_seg dksX1_faultOf_6 23 rfl rfl
theorem dksX1_faultOf_8 : cX1_faultOf.data.toList.drop 191 = dktX1_faultOf_8 := dk_seg dksX1_faultOf_7 24 rfl rfl
theorem dksX1_faultOf_9 : cX1_faultOf.data.toList.drop 214 = dktX1_faultOf_9 := dk_seg dksX1_faultOf_8 23 rfl rfl
theorem dksX1_faultOf_10 : cX1_faultOf.data.toList.drop 236 = dktX1_faultOf_10 := dk_seg dksX1_faultOf_9 22 rfl rfl
theorem dksX1_faultOf_11 : cX1_faultOf.data.toList.drop 258 = dktX1_faultOf_11 := dk_seg dksX1_faultOf_10 22 rfl rfl
theorem dX1_faultOf_0 : decode cX1_faultOf 0 = .ok (.aload_n 0, 1) := dk_42 (dk_at dksX1_faultOf_0 0 rfl rfl)
theorem dX1_faultOf_1 : decode cX1_faultOf 1 = .ok (.iconst 0, 1) := dk_3 (dk_at dksX1_faultOf_0 1 rfl rfl)
theorem dX1_faultOf_2 : decode cX1_faultOf 2 = .ok (.putfield 151, 3) := dk_181 0 151 (dk_at dksX1_faultOf_0 2 rfl rfl)
theorem dX1_faultOf_5 : decode cX1_faultOf 5 = .ok (.aload_n 0, 1) := dk_42 (dk_at dksX1_faultOf_0 5 rfl rfl)
theorem dX1_faultOf_6 : decode cX1_faultOf 6 = .ok (.iconst 0, 1) := dk_3 (dk_at dksX1_faultOf_0 6 rfl rfl)
theorem dX1_faultOf_7 : decode cX1_faultOf 7 = .ok (.putfield 164, 3) := dk_181 0 164 (dk_at dksX1_faultOf_0 7 rfl rfl)
theorem dX1_faultOf_10 : decode cX1_faultOf 10 = .ok (.iconst 0, 1) := dk_3 (dk_at dksX1_faultOf_0 10 rfl rfl)
theorem dX1_faultOf_11 : decode cX1_faultOf 11 = .ok (.istore_n 2, 1) := dk_61 (dk_at dksX1_faultOf_0 11 rfl rfl)
theorem dX1_faultOf_12 : decode cX1_faultOf 12 = .ok (.aload_n 0, 1) := dk_42 (dk_at dksX1_faultOf_0 12 rfl rfl)
theorem dX1_faultOf_13 : decode cX1_faultOf 13 = .ok (.getfield 50, 3) := dk_180 0 50 (dk_at dksX1_faultOf_0 13 rfl rfl)
theorem dX1_faultOf_16 : decode cX1_faultOf 16 = .ok (.iconst 0, 1) := dk_3 (dk_at dksX1_faultOf_0 16 rfl rfl)
theorem dX1_faultOf_17 : decode cX1_faultOf 17 = .ok (.iconst 0, 1) := dk_3 (dk_at dksX1_faultOf_0 17 rfl rfl)
theorem dX1_faultOf_18 : decode cX1_faultOf 18 = .ok (.iastore, 1) := dk_79 (dk_at dksX1_faultOf_0 18 rfl rfl)
theorem dX1_faultOf_19 : decode cX1_faultOf 19 = .ok (.iconst 0, 1) := dk_3 (dk_at dksX1_faultOf_0 19 rfl rfl)
theorem dX1_faultOf_20 : decode cX1_faultOf 20 = .ok (.istore_n 3, 1) := dk_62 (dk_at dksX1_faultOf_0 20 rfl rfl)
theorem dX1_faultOf_21 : decode cX1_faultOf 21 = .ok (.aload_n 0, 1) := dk_42 (dk_at dksX1_faultOf_0 21 rfl rfl)
theorem dX1_faultOf_22 : decode cX1_faultOf 22 = .ok (.iload_n 1, 1) := dk_27 (dk_at dksX1_faultOf_0 22 rfl rfl)
theorem dX1_faultOf_23 : decode cX1_faultOf 23 = .ok (.iload_n 3, 1) := dk_29 (dk_at dksX1_faultOf_0 23 rfl rfl)
theorem dX1_faultOf_24 : decode cX1_faultOf 24 = .ok (.invokevirtual 172, 3) := dk_182 0 172 (dk_at dksX1_faultOf_1 0 rfl rfl)
theorem dX1_faultOf_27 : decode cX1_faultOf 27 = .ok (.bipush 32, 2) := dk_16 32 (dk_at dksX1_faultOf_1 3 rfl rfl)
theorem dX1_faultOf_29 : decode cX1_faultOf 29 = .ok (.if_icmp .ne 9, 3) := dk_160 0 9 (dk_at dksX1_faultOf_1 5 rfl rfl)
theorem dX1_faultOf_32 : decode cX1_faultOf 32 = .ok (.iinc 3 1, 3) := dk_132 3 1 (dk_at dksX1_faultOf_1 8 rfl rfl)
theorem dX1_faultOf_35 : decode cX1_faultOf 35 = .ok (.goto (-14), 3) := dk_167 255 242 (dk_at dksX1_faultOf_1 11 rfl rfl)
theorem dX1_faultOf_38 : decode cX1_faultOf 38 = .ok (.iconst 1, 1) := dk_4 (dk_at dksX1_faultOf_1 14 rfl rfl)
theorem dX1_faultOf_39 : decode cX1_faultOf 39 = .ok (.istore 4, 2) := dk_54 4 (dk_at dksX1_faultOf_1 15 rfl rfl)
theorem dX1_faultOf_41 : decode cX1_faultOf 41 = .ok (.iload_n 3, 1) := dk_29 (dk_at dksX1_faultOf_1 17 rfl rfl)
theorem dX1_faultOf_42 : decode cX1_faultOf 42 = .ok (.aload_n 0, 1) := dk_42 (dk_at dksX1_faultOf_1 18 rfl rfl)
theorem dX1_faultOf_43 : decode cX1_faultOf 43 = .ok (.getfield 22, 3) := dk_180 0 22 (dk_at dksX1_faultOf_1 19 rfl rfl)
theorem dX1_faultOf_46 : decode cX1_faultOf 46 = .ok (.iload_n 1, 1) := dk_27 (dk_at dksX1_faultOf_1 22 rfl rfl)
theorem dX1_faultOf_47 : decode cX1_faultOf 47 = .ok (.iaload, 1) := dk_46 (dk_at dksX1_faultOf_1 23 rfl rfl)
theorem dX1_faultOf_48 : decode cX1_faultOf 48 = .ok (.if_icmp .ge 191, 3) := dk_162 0 191 (dk_at dksX1_faultOf_2 0 rfl rfl)
theorem dX1_faultOf_51 : decode cX1_faultOf 51 = .ok (.iload 4, 2) := dk_21 4 (dk_at dksX1_faultOf_2 3 rfl rfl)
theorem dX1_faultOf_53 : decode cX1_faultOf 53 = .ok (.ifCond .eq 186, 3) := dk_153 0 186 (dk_at dksX1_faultOf_2 5 rfl rfl)
theorem dX1_faultOf_56 : decode cX1_faultOf 56 = .ok (.aload_n 0, 1) := dk_42 (dk_at dksX1_faultOf_2 8 rfl rfl)
theorem dX1_faultOf_57 : decode cX1_faultOf 57 = .ok (.iload_n 1, 1) := dk_27 (dk_at dksX1_faultOf_2 9 rfl rfl)
theorem dX1_faultOf_58 : decode cX1_faultOf 58 = .ok (.iload_n 3, 1) := dk_29 (dk_at dksX1_faultOf_2 10 rfl rfl)
theorem dX1_faultOf_59 : decode cX1_faultOf 59 = .ok (.invokevirtual 172, 3) := dk_182 0 172 (dk_at dksX1_faultOf_2 11 rfl rfl)
theorem dX1_faultOf_62 : decode cX1_faultOf 62 = .ok (.istore 5, 2) := dk_54 5 (dk_at dksX1_faultOf_2 14 rfl rfl)
theorem dX1_faultOf_64 : decode cX1_faultOf 64 = .ok (.aload_n 0, 1) := dk_42 (dk_at dksX1_faultOf_2 16 rfl rfl)
theorem dX1_faultOf_65 : decode cX1_faultOf 65 = .ok (.getfield 151, 3) := dk_180 0 151 (dk_at dksX1_faultOf_2 17 rfl rfl)
theorem dX1_faultOf_68 : decode cX1_faultOf 68 = .ok (.istore 6, 2) := dk_54 6 (dk_at dksX1_faultOf_2 20 rfl rfl)
theorem dX1_faultOf_70 : decode cX1_faultOf 70 = .ok (.iload 5, 2) := dk_21 5 (dk_at dksX1_faultOf_2 22 rfl rfl)
theorem dX1_faultOf_72 : decode cX1_faultOf 72 = .ok (.bipush 40, 2) := dk_16 40 (dk_at dksX1_faultOf_3 0 rfl rfl)
theorem dX1_faultOf_74 : decode cX1_faultOf 74 = .ok (.if_icmp .ne 34, 3) := dk_160 0 34 (dk_at dksX1_faultOf_3 2 rfl rfl)
theorem dX1_faultOf_77 : decode cX1_faultOf 77 = .ok (.iload_n 2, 1) := dk_28 (dk_at dksX1_faultOf_3 5 rfl rfl)
theorem dX1_faultOf_78 : decode cX1_faultOf 78 = .ok (.iconst 4, 1) := dk_7 (dk_at dksX1_faultOf_3 6 rfl rfl)
theorem dX1_faultOf_79 : decode cX1_faultOf 79 = .ok (.if_icmp .ge 29, 3) := dk_162 0 29 (dk_at dksX1_faultOf_3 7 rfl rfl)
theorem dX1_faultOf_82 : decode cX1_faultOf 82 = .ok (.iinc 2 1, 3) := dk_132 2 1 (dk_at dksX1_faultOf_3 10 rfl rfl)
theorem dX1_faultOf_85 : decode cX1_faultOf 85 = .ok (.aload_n 0, 1) := dk_42 (dk_at dksX1_faultOf_3 13 rfl rfl)
theorem dX1_faultOf_86 : decode cX1_faultOf 86 = .ok (.getfield 47, 3) := dk_180 0 47 (dk_at dksX1_faultOf_3 14 rfl rfl)
theorem dX1_faultOf_89 : decode cX1_faultOf 89 = .ok (.iload_n 2, 1) := dk_28 (dk_at dksX1_faultOf_3 17 rfl rfl)
theorem dX1_faultOf_90 : decode cX1_faultOf 90 = .ok (.aload_n 0, 1) := dk_42 (dk_at dksX1_faultOf_3 18 rfl rfl)
theorem dX1_faultOf_91 : decode cX1_faultOf 91 = .ok (.getfield 151, 3) := dk_180 0 151 (dk_at dksX1_faultOf_3 19 rfl rfl)
theorem dX1_faultOf_94 : decode cX1_faultOf 94 = .ok (.iastore, 1) := dk_79 (dk_at dksX1_faultOf_3 22 rfl rfl)
theorem dX1_faultOf_95 : decode cX1_faultOf 95 = .ok (.aload_n 0, 1) := dk_42 (dk_at dksX1_faultOf_3 23 rfl rfl)
theorem dX1_faultOf_96 : decode cX1_faultOf 96 = .ok (.getfield 50, 3) := dk_180 0 50 (dk_at dksX1_faultOf_4 0 rfl rfl)
theorem dX1_faultOf_99 : decode cX1_faultOf 99 = .ok (.iload_n 2, 1) := dk_28 (dk_at dksX1_faultOf_4 3 rfl rfl)
theorem dX1_faultOf_100 : decode cX1_faultOf 100 = .ok (.iconst 0, 1) := dk_3 (dk_at dksX1_faultOf_4 4 rfl rfl)
theorem dX1_faultOf_101 : decode cX1_faultOf 101 = .ok (.iastore, 1) := dk_79 (dk_at dksX1_faultOf_4 5 rfl rfl)
theorem dX1_faultOf_102 : decode cX1_faultOf 102 = .ok (.iinc 3 1, 3) := dk_132 3 1 (dk_at dksX1_faultOf_4 6 rfl rfl)
theorem dX1_faultOf_105 : decode cX1_faultOf 105 = .ok (.goto 131, 3) := dk_167 0 131 (dk_at dksX1_faultOf_4 9 rfl rfl)
theorem dX1_faultOf_108 : decode cX1_faultOf 108 = .ok (.iload 5, 2) := dk_21 5 (dk_at dksX1_faultOf_4 12 rfl rfl)
theorem dX1_faultOf_110 : decode cX1_faultOf 110 = .ok (.bipush 41, 2) := dk_16 41 (dk_at dksX1_faultOf_4 14 rfl rfl)
theorem dX1_faultOf_112 : decode cX1_faultOf 112 = .ok (.if_icmp .ne 16, 3) := dk_160 0 16 (dk_at dksX1_faultOf_4 16 rfl rfl)
theorem dX1_faultOf_115 : decode cX1_faultOf 115 = .ok (.iload_n 2, 1) := dk_28 (dk_at dksX1_faultOf_4 19 rfl rfl)
theorem dX1_faultOf_116 : decode cX1_faultOf 116 = .ok (.ifCond .le 12, 3) := dk_158 0 12 (dk_at dksX1_faultOf_4 20 rfl rfl)
theorem dX1_faultOf_119 : decode cX1_faultOf 119 = .ok (.aload_n 0, 1) := dk_42 (dk_at dksX1_faultOf_4 23 rfl rfl)
theorem dX1_faultOf_120 : decode cX1_faultOf 120 = .ok (.getfield 50, 3) := dk_180 0 50 (dk_at dksX1_faultOf_5 0 rfl rfl)
theorem dX1_faultOf_123 : decode cX1_faultOf 123 = .ok (.iload_n 2, 1) := dk_28 (dk_at dksX1_faultOf_5 3 rfl rfl)
theorem dX1_faultOf_124 : decode cX1_faultOf 124 = .ok (.iaload, 1) := dk_46 (dk_at dksX1_faultOf_5 4 rfl rfl)
theorem dX1_faultOf_125 : decode cX1_faultOf 125 = .ok (.ifCond .gt 15, 3) := dk_157 0 15 (dk_at dksX1_faultOf_5 5 rfl rfl)
theorem dX1_faultOf_128 : decode cX1_faultOf 128 = .ok (.aload_n 0, 1) := dk_42 (dk_at dksX1_faultOf_5 8 rfl rfl)
theorem dX1_faultOf_129 : decode cX1_faultOf 129 = .ok (.iload 5, 2) := dk_21 5 (dk_at dksX1_faultOf_5 9 rfl rfl)
theorem dX1_faultOf_131 : decode cX1_faultOf 131 = .ok (.bipush 97, 2) := dk_16 97 (dk_at dksX1_faultOf_5 11 rfl rfl)
theorem dX1_faultOf_133 : decode cX1_faultOf 133 = .ok (.isub, 1) := dk_100 (dk_at dksX1_faultOf_5 13 rfl rfl)
theorem dX1_faultOf_134 : decode cX1_faultOf 134 = .ok (.invokevirtual 157, 3) := dk_182 0 157 (dk_at dksX1_faultOf_5 14 rfl rfl)
theorem dX1_faultOf_137 : decode cX1_faultOf 137 = .ok (.ifCond .eq 80, 3) := dk_153 0 80 (dk_at dksX1_faultOf_5 17 rfl rfl)
theorem dX1_faultOf_140 : decode cX1_faultOf 140 = .ok (.iload 5, 2) := dk_21 5 (dk_at dksX1_faultOf_5 20 rfl rfl)
theorem dX1_faultOf_142 : decode cX1_faultOf 142 = .ok (.bipush 41, 2) := dk_16 41 (dk_at dksX1_faultOf_5 22 rfl rfl)
theorem dX1_faultOf_144 : decode cX1_faultOf 144 = .ok (.if_icmp .ne 17, 3) := dk_160 0 17 (dk_at dksX1_faultOf_6 0 rfl rfl)
theorem dX1_faultOf_147 : decode cX1_faultOf 147 = .ok (.aload_n 0, 1) := dk_42 (dk_at dksX1_faultOf_6 3 rfl rfl)
theorem dX1_faultOf_148 : decode cX1_faultOf 148 = .ok (.getfield 47, 3) := dk_180 0 47 (dk_at dksX1_faultOf_6 4 rfl rfl)
theorem dX1_faultOf_151 : decode cX1_faultOf 151 = .ok (.iload_n 2, 1) := dk_28 (dk_at dksX1_faultOf_6 7 rfl rfl)
theorem dX1_faultOf_152 : decode cX1_faultOf 152 = .ok (.iaload, 1) := dk_46 (dk_at dksX1_faultOf_6 8 rfl rfl)
theorem dX1_faultOf_153 : decode cX1_faultOf 153 = .ok (.istore 6, 2) := dk_54 6 (dk_at dksX1_faultOf_6 9 rfl rfl)
theorem dX1_faultOf_155 : decode cX1_faultOf 155 = .ok (.iinc 2 (-1), 3) := dk_132 2 255 (dk_at dksX1_faultOf_6 11 rfl rfl)
theorem dX1_faultOf_158 : decode cX1_faultOf 158 = .ok (.goto 12, 3) := dk_167 0 12 (dk_at dksX1_faultOf_6 14 rfl rfl)
theorem dX1_faultOf_161 : decode cX1_faultOf 161 = .ok (.aload_n 0, 1) := dk_42 (dk_at dksX1_faultOf_6 17 rfl rfl)
theorem dX1_faultOf_162 : decode cX1_faultOf 162 = .ok (.iload 5, 2) := dk_21 5 (dk_at dksX1_faultOf_6 18 rfl rfl)
theorem dX1_faultOf_164 : decode cX1_faultOf 164 = .ok (.bipush 97, 2) := dk_16 97 (dk_at dksX1_faultOf_6 20 rfl rfl)
theorem dX1_faultOf_166 : decode cX1_faultOf 166 = .ok (.isub, 1) := dk_100 (dk_at dksX1_faultOf_6 22 rfl rfl)
theorem dX1_faultOf_167 : decode cX1_faultOf 167 = .ok (.invokevirtual 168, 3) := dk_182 0 168 (dk_at dksX1_faultOf_7 0 rfl rfl)
theorem dX1_faultOf_170 : decode cX1_faultOf 170 = .ok (.aload_n 0, 1) := dk_42 (dk_at dksX1_faultOf_7 3 rfl rfl)
theorem dX1_faultOf_171 : decode cX1_faultOf 171 = .ok (.getfield 50, 3) := dk_180 0 50 (dk_at dksX1_faultOf_7 4 rfl rfl)
theorem dX1_faultOf_174 : decode cX1_faultOf 174 = .ok (.iload_n 2, 1) := dk_28 (dk_at dksX1_faultOf_7 7 rfl rfl)
theorem dX1_faultOf_175 : decode cX1_faultOf 175 = .ok (.dup2, 1) := dk_92 (dk_at dksX1_faultOf_7 8 rfl rfl)
theorem dX1_faultOf_176 : decode cX1_faultOf 176 = .ok (.iaload, 1) := dk_46 (dk_at dksX1_faultOf_7 9 rfl rfl)
theorem dX1_faultOf_177 : decode cX1_faultOf 177 = .ok (.iconst 1, 1) := dk_4 (dk_at dksX1_faultOf_7 10 rfl rfl)
theorem dX1_faultOf_178 : decode cX1_faultOf 178 = .ok (.iadd, 1) := dk_96 (dk_at dksX1_faultOf_7 11 rfl rfl)
theorem dX1_faultOf_179 : decode cX1_faultOf 179 = .ok (.iastore, 1) := dk_79 (dk_at dksX1_faultOf_7 12 rfl rfl)
theorem dX1_faultOf_180 : decode cX1_faultOf 180 = .ok (.iinc 3 1, 3) := dk_132 3 1 (dk_at dksX1_faultOf_7 13 rfl rfl)
theorem dX1_faultOf_183 : decode cX1_faultOf 183 = .ok (.aload_n 0, 1) := dk_42 (dk_at dksX1_faultOf_7 16 rfl rfl)
theorem dX1_faultOf_184 : decode cX1_faultOf 184 = .ok (.iload_n 1, 1) := dk_27 (dk_at dksX1_faultOf_7 17 rfl rfl)
theorem dX1_faultOf_185 : decode cX1_faultOf 185 = .ok (.iload_n 3, 1) := dk_29 (dk_at dksX1_faultOf_7 18 rfl rfl)
theorem dX1_faultOf_186 : decode cX1_faultOf 186 = .ok (.invokevirtual 175, 3) := dk_182 0 175 (dk_at dksX1_faultOf_7 19 rfl rfl)
theorem dX1_faultOf_189 : decode cX1_faultOf 189 = .ok (.istore 7, 2) := dk_54 7 (dk_at dksX1_faultOf_7 22 rfl rfl)
theorem dX1_faultOf_191 : decode cX1_faultOf 191 = .ok (.iload_n 3, 1) := dk_29 (dk_at dksX1_faultOf_8 0 rfl rfl)
theorem dX1_faultOf_192 : decode cX1_faultOf 192 = .ok (.iload 7, 2) := dk_21 7 (dk_at dksX1_faultOf_8 1 rfl rfl)
theorem dX1_faultOf_194 : decode cX1_faultOf 194 = .ok (.ifCond .le 7, 3) := dk_158 0 7 (dk_at dksX1_faultOf_8 3 rfl rfl)
theorem dX1_faultOf_197 : decode cX1_faultOf 197 = .ok (.iconst 1, 1) := dk_4 (dk_at dksX1_faultOf_8 6 rfl rfl)
theorem dX1_faultOf_198 : decode cX1_faultOf 198 = .ok (.goto 4, 3) := dk_167 0 4 (dk_at dksX1_faultOf_8 7 rfl rfl)
theorem dX1_faultOf_201 : decode cX1_faultOf 201 = .ok (.iconst 0, 1) := dk_3 (dk_at dksX1_faultOf_8 10 rfl rfl)
theorem dX1_faultOf_202 : decode cX1_faultOf 202 = .ok (.iadd, 1) := dk_96 (dk_at dksX1_faultOf_8 11 rfl rfl)
theorem dX1_faultOf_203 : decode cX1_faultOf 203 = .ok (.istore_n 3, 1) := dk_62 (dk_at dksX1_faultOf_8 12 rfl rfl)
theorem dX1_faultOf_204 : decode cX1_faultOf 204 = .ok (.aload_n 0, 1) := dk_42 (dk_at dksX1_faultOf_8 13 rfl rfl)
theorem dX1_faultOf_205 : decode cX1_faultOf 205 = .ok (.iload 6, 2) := dk_21 6 (dk_at dksX1_faultOf_8 14 rfl rfl)
theorem dX1_faultOf_207 : decode cX1_faultOf 207 = .ok (.iload 7, 2) := dk_21 7 (dk_at dksX1_faultOf_8 16 rfl rfl)
theorem dX1_faultOf_209 : decode cX1_faultOf 209 = .ok (.iconst 1, 1) := dk_4 (dk_at dksX1_faultOf_8 18 rfl rfl)
theorem dX1_faultOf_210 : decode cX1_faultOf 210 = .ok (.isub, 1) := dk_100 (dk_at dksX1_faultOf_8 19 rfl rfl)
theorem dX1_faultOf_211 : decode cX1_faultOf 211 = .ok (.invokevirtual 178, 3) := dk_182 0 178 (dk_at dksX1_faultOf_8 20 rfl rfl)
theorem dX1_faultOf_214 : decode cX1_faultOf 214 = .ok (.goto 22, 3) := dk_167 0 22 (dk_at dksX1_faultOf_9 0 rfl rfl)
theorem dX1_faultOf_217 : decode cX1_faultOf 217 = .ok (.iload 5, 2) := dk_21 5 (dk_at dksX1_faultOf_9 3 rfl rfl)
theorem dX1_faultOf_219 : decode cX1_faultOf 219 = .ok (.bipush 32, 2) := dk_16 32 (dk_at dksX1_faultOf_9 5 rfl rfl)
theorem dX1_faultOf_221 : decode cX1_faultOf 221 = .ok (.if_icmp .ne 13, 3) := dk_160 0 13 (dk_at dksX1_faultOf_9 7 rfl rfl)
theorem dX1_faultOf_224 : decode cX1_faultOf 224 = .ok (.iload_n 2, 1) := dk_28 (dk_at dksX1_faultOf_9 10 rfl rfl)
theorem dX1_faultOf_225 : decode cX1_faultOf 225 = .ok (.ifCond .ne 9, 3) := dk_154 0 9 (dk_at dksX1_faultOf_9 11 rfl rfl)
theorem dX1_faultOf_228 : decode cX1_faultOf 228 = .ok (.iconst 0, 1) := dk_3 (dk_at dksX1_faultOf_9 14 rfl rfl)
theorem dX1_faultOf_229 : decode cX1_faultOf 229 = .ok (.istore 4, 2) := dk_54 4 (dk_at dksX1_faultOf_9 15 rfl rfl)
theorem dX1_faultOf_231 : decode cX1_faultOf 231 = .ok (.goto 5, 3) := dk_167 0 5 (dk_at dksX1_faultOf_9 17 rfl rfl)
theorem dX1_faultOf_234 : decode cX1_faultOf 234 = .ok (.iload_n 3, 1) := dk_29 (dk_at dksX1_faultOf_9 20 rfl rfl)
theorem dX1_faultOf_235 : decode cX1_faultOf 235 = .ok (.ireturn, 1) := dk_172 (dk_at dksX1_faultOf_9 21 rfl rfl)
theorem dX1_faultOf_236 : decode cX1_faultOf 236 = .ok (.goto (-195), 3) := dk_167 255 61 (dk_at dksX1_faultOf_10 0 rfl rfl)
theorem dX1_faultOf_239 : decode cX1_faultOf 239 = .ok (.aload_n 0, 1) := dk_42 (dk_at dksX1_faultOf_10 3 rfl rfl)
theorem dX1_faultOf_240 : decode cX1_faultOf 240 = .ok (.iload_n 1, 1) := dk_27 (dk_at dksX1_faultOf_10 4 rfl rfl)
theorem dX1_faultOf_241 : decode cX1_faultOf 241 = .ok (.iload_n 3, 1) := dk_29 (dk_at dksX1_faultOf_10 5 rfl rfl)
theorem dX1_faultOf_242 : decode cX1_faultOf 242 = .ok (.invokevirtual 172, 3) := dk_182 0 172 (dk_at dksX1_faultOf_10 6 rfl rfl)
theorem dX1_faultOf_245 : decode cX1_faultOf 245 = .ok (.bipush 32, 2) := dk_16 32 (dk_at dksX1_faultOf_10 9 rfl rfl)
theorem dX1_faultOf_247 : decode cX1_faultOf 247 = .ok (.if_icmp .ne 9, 3) := dk_160 0 9 (dk_at dksX1_faultOf_10 11 rfl rfl)
theorem dX1_faultOf_250 : decode cX1_faultOf 250 = .ok (.iinc 3 1, 3) := dk_132 3 1 (dk_at dksX1_faultOf_10 14 rfl rfl)
theorem dX1_faultOf_253 : decode cX1_faultOf 253 = .ok (.goto (-14), 3) := dk_167 255 242 (dk_at dksX1_faultOf_10 17 rfl rfl)
theorem dX1_faultOf_256 : decode cX1_faultOf 256 = .ok (.iload_n 3, 1) := dk_29 (dk_at dksX1_faultOf_10 20 rfl rfl)
theorem dX1_faultOf_257 : decode cX1_faultOf 257 = .ok (.aload_n 0, 1) := dk_42 (dk_at dksX1_faultOf_10 21 rfl rfl)
theorem dX1_faultOf_258 : decode cX1_faultOf 258 = .ok (.getfield 22, 3) := dk_180 0 22 (dk_at dksX1_faultOf_11 0 rfl rfl)
theorem dX1_faultOf_261 : decode cX1_faultOf 261 = .ok (.iload_n 1, 1) := dk_27 (dk_at dksX1_faultOf_11 3 rfl rfl)
theorem dX1_faultOf_262 : decode cX1_faultOf 262 = .ok (.iaload, 1) := dk_46 (dk_at dksX1_faultOf_11 4 rfl rfl)
theorem dX1_faultOf_263 : decode cX1_faultOf 263 = .ok (.if_icmp .lt 7, 3) := dk_161 0 7 (dk_at dksX1_faultOf_11 5 rfl rfl)
theorem dX1_faultOf_266 : decode cX1_faultOf 266 = .ok (.iload_n 2, 1) := dk_28 (dk_at dksX1_faultOf_11 8 rfl rfl)
theorem dX1_faultOf_267 : decode cX1_faultOf 267 = .ok (.ifCond .le 7, 3) := dk_158 0 7 (dk_at dksX1_faultOf_11 9 rfl rfl)
theorem dX1_faultOf_270 : decode cX1_faultOf 270 = .ok (.iload_n 3, 1) := dk_29 (dk_at dksX1_faultOf_11 12 rfl rfl)
theorem dX1_faultOf_271 : decode cX1_faultOf 271 = .ok (.goto 5, 3) := dk_167 0 5 (dk_at dksX1_faultOf_11 13 rfl rfl)
theorem dX1_faultOf_274 : decode cX1_faultOf 274 = .ok (.bipush (-9), 2) := dk_16 247 (dk_at dksX1_faultOf_11 16 rfl rfl)
theorem dX1_faultOf_276 : decode cX1_faultOf 276 = .ok (.ireturn, 1) := dk_172 (dk_at dksX1_faultOf_11 18 rfl rfl)
abbrev cX1_byteAt : ByteArray := prog_8_method_25_code
def yX1_byteAt : MethodName := ⟨RX1, "byteAt", "(II)I"⟩
def dkwX1_byteAt_1 : List UInt8 := [3, 172]
abbrev dktX1_byteAt_1 : List UInt8 := dkwX1_byteAt_1 ++ []
def dkwX1_byteAt_0 : List UInt8 := [28, 42, 180, 0, 22, 27, 46, 162, 0, 17, 42, 180, 0, 25, 16, 60, 27, 104, 28, 96, 51, 167, 0, 4]
abbrev dktX1_byteAt_0 : List UInt8 := dkwX1_byteAt_0 ++ dktX1_byteAt_1
theorem dksX1_byteAt_0 : cX1_byteAt.data.toList.drop 0 = dktX1_byteAt_0 := by decide +kernel
theorem dksX1_byteAt_1 : cX1_byteAt.data.toList.drop 24 = dktX1_byteAt_1 := dk_seg dksX1_byteAt_0 24 rfl rfl
theorem dX1_byteAt_0 : decode cX1_byteAt 0 = .ok (.iload_n 2, 1) := dk_28 (dk_at dksX1_byteAt_0 0 rfl rfl)
theorem dX1_byteAt_1 : decode cX1_byteAt 1 = .ok (.aload_n 0, 1) := dk_42 (dk_at dksX1_byteAt_0 1 rfl rfl)
theorem dX1_byteAt_2 : decode cX1_byteAt 2 = .ok (.getfield 22, 3) := dk_180 0 22 (dk_at dksX1_byteAt_0 2 rfl rfl)
theorem dX1_byteAt_5 : decode cX1_byteAt 5 = .ok (.iload_n 1, 1) := dk_27 (dk_at dksX1_byteAt_0 5 rfl rfl)
theorem dX1_byteAt_6 : decode cX1_byteAt 6 = .ok (.iaload, 1) := dk_46 (dk_at dksX1_byteAt_0 6 rfl rfl)
theorem dX1_byteAt_7 : decode cX1_byteAt 7 = .ok (.if_icmp .ge 17, 3) := dk_162 0 17 (dk_at dksX1_byteAt_0 7 rfl rfl)
theorem dX1_byteAt_10 : decode cX1_byteAt 10 = .ok (.aload_n 0, 1) := dk_42 (dk_at dksX1_byteAt_0 10 rfl rfl)
theorem dX1_byteAt_11 : decode cX1_byteAt 11 = .ok (.getfield 25, 3) := dk_180 0 25 (dk_at dksX1_byteAt_0 11 rfl rfl)
theorem dX1_byteAt_14 : decode cX1_byteAt 14 = .ok (.bipush 60, 2) := dk_16 60 (dk_at dksX1_byteAt_0 14 rfl rfl)
theorem dX1_byteAt_16 : decode cX1_byteAt 16 = .ok (.iload_n 1, 1) := dk_27 (dk_at dksX1_byteAt_0 16 rfl rfl)
theorem dX1_byteAt_17 : decode cX1_byteAt 17 = .ok (.imul, 1) := dk_104 (dk_at dksX1_byteAt_0 17 rfl rfl)
theorem dX1_byteAt_18 : decode cX1_byteAt 18 = .ok (.iload_n 2, 1) := dk_28 (dk_at dksX1_byteAt_0 18 rfl rfl)
theorem dX1_byteAt_19 : decode cX1_byteAt 19 = .ok (.iadd, 1) := dk_96 (dk_at dksX1_byteAt_0 19 rfl rfl)
theorem dX1_byteAt_20 : decode cX1_byteAt 20 = .ok (.baload, 1) := dk_51 (dk_at dksX1_byteAt_0 20 rfl rfl)
theorem dX1_byteAt_21 : decode cX1_byteAt 21 = .ok (.goto 4, 3) := dk_167 0 4 (dk_at dksX1_byteAt_0 21 rfl rfl)
theorem dX1_byteAt_24 : decode cX1_byteAt 24 = .ok (.iconst 0, 1) := dk_3 (dk_at dksX1_byteAt_1 0 rfl rfl)
theorem dX1_byteAt_25 : decode cX1_byteAt 25 = .ok (.ireturn, 1) := dk_172 (dk_at dksX1_byteAt_1 1 rfl rfl)
abbrev cX1_comesOn : ByteArray := prog_8_method_34_code
def yX1_comesOn : MethodName := ⟨RX1, "comesOn", "(I)V"⟩
def dkwX1_comesOn_1 : List UInt8 := [4, 96, 181, 0, 151, 167, 0, 8, 42, 4, 181, 0, 164, 177]
abbrev dktX1_comesOn_1 : List UInt8 := dkwX1_comesOn_1 ++ []
def dkwX1_comesOn_0 : List UInt8 := [42, 180, 0, 151, 16, 40, 162, 0, 26, 42, 180, 0, 44, 42, 180, 0, 151, 27, 79, 42, 89, 180, 0, 151]
abbrev dktX1_comesOn_0 : List UInt8 := dkwX1_comesOn_0 ++ dktX1_comesOn_1
theorem dksX1_comesOn_0 : cX1_comesOn.data.toList.drop 0 = dktX1_comesOn_0 := by decide +kernel
theorem dksX1_comesOn_1 : cX1_comesOn.data.toList.drop 24 = dktX1_comesOn_1 := dk_seg dksX1_comesOn_0 24 rfl rfl
theorem dX1_comesOn_0 : decode cX1_comesOn 0 = .ok (.aload_n 0, 1) := dk_42 (dk_at dksX1_comesOn_0 0 rfl rfl)
theorem dX1_comesOn_1 : decode cX1_comesOn 1 = .ok (.getfield 151, 3) := dk_180 0 151 (dk_at dksX1_comesOn_0 1 rfl rfl)
theorem dX1_comesOn_4 : decode cX1_comesOn 4 = .ok (.bipush 40, 2) := dk_16 40 (dk_at dksX1_comesOn_0 4 rfl rfl)
theorem dX1_comesOn_6 : decode cX1_comesOn 6 = .ok (.if_icmp .ge 26, 3) := dk_162 0 26 (dk_at dksX1_comesOn_0 6 rfl rfl)
theorem dX1_comesOn_9 : decode cX1_comesOn 9 = .ok (.aload_n 0, 1) := dk_42 (dk_at dksX1_comesOn_0 9 rfl rfl)
theorem dX1_comesOn_10 : decode cX1_comesOn 10 = .ok (.getfield 44, 3) := dk_180 0 44 (dk_at dksX1_comesOn_0 10 rfl rfl)
theorem dX1_comesOn_13 : decode cX1_comesOn 13 = .ok (.aload_n 0, 1) := dk_42 (dk_at dksX1_comesOn_0 13 rfl rfl)
theorem dX1_comesOn_14 : decode cX1_comesOn 14 = .ok (.getfield 151, 3) := dk_180 0 151 (dk_at dksX1_comesOn_0 14 rfl rfl)
theorem dX1_comesOn_17 : decode cX1_comesOn 17 = .ok (.iload_n 1, 1) := dk_27 (dk_at dksX1_comesOn_0 17 rfl rfl)
theorem dX1_comesOn_18 : decode cX1_comesOn 18 = .ok (.iastore, 1) := dk_79 (dk_at dksX1_comesOn_0 18 rfl rfl)
theorem dX1_comesOn_19 : decode cX1_comesOn 19 = .ok (.aload_n 0, 1) := dk_42 (dk_at dksX1_comesOn_0 19 rfl rfl)
theorem dX1_comesOn_20 : decode cX1_comesOn 20 = .ok (.dup, 1) := dk_89 (dk_at dksX1_comesOn_0 20 rfl rfl)
theorem dX1_comesOn_21 : decode cX1_comesOn 21 = .ok (.getfield 151, 3) := dk_180 0 151 (dk_at dksX1_comesOn_0 21 rfl rfl)
theorem dX1_comesOn_24 : decode cX1_comesOn 24 = .ok (.iconst 1, 1) := dk_4 (dk_at dksX1_comesOn_1 0 rfl rfl)
theorem dX1_comesOn_25 : decode cX1_comesOn 25 = .ok (.iadd, 1) := dk_96 (dk_at dksX1_comesOn_1 1 rfl rfl)
theorem dX1_comesOn_26 : decode cX1_comesOn 26 = .ok (.putfield 151, 3) := dk_181 0 151 (dk_at dksX1_comesOn_1 2 rfl rfl)
theorem dX1_comesOn_29 : decode cX1_comesOn 29 = .ok (.goto 8, 3) := dk_167 0 8 (dk_at dksX1_comesOn_1 5 rfl rfl)
theorem dX1_comesOn_32 : decode cX1_comesOn 32 = .ok (.aload_n 0, 1) := dk_42 (dk_at dksX1_comesOn_1 8 rfl rfl)
theorem dX1_comesOn_33 : decode cX1_comesOn 33 = .ok (.iconst 1, 1) := dk_4 (dk_at dksX1_comesOn_1 9 rfl rfl)
theorem dX1_comesOn_34 : decode cX1_comesOn 34 = .ok (.putfield 164, 3) := dk_181 0 164 (dk_at dksX1_comesOn_1 10 rfl rfl)
theorem dX1_comesOn_37 : decode cX1_comesOn 37 = .ok (.return_, 1) := dk_177 (dk_at dksX1_comesOn_1 13 rfl rfl)
abbrev cX1_figureAt : ByteArray := prog_8_method_36_code
def yX1_figureAt : MethodName := ⟨RX1, "figureAt", "(II)I"⟩
def dkwX1_figureAt_1 : List UInt8 := [100, 167, 0, 4, 3, 172]
abbrev dktX1_figureAt_1 : List UInt8 := dkwX1_figureAt_1 ++ []
def dkwX1_figureAt_0 : List UInt8 := [42, 27, 28, 182, 0, 172, 16, 49, 16, 57, 184, 0, 117, 153, 0, 15, 42, 27, 28, 182, 0, 172, 16, 48]
abbrev dktX1_figureAt_0 : List UInt8 := dkwX1_figureAt_0 ++ dktX1_figureAt_1
theorem dksX1_figureAt_0 : cX1_figureAt.data.toList.drop 0 = dktX1_figureAt_0 := by decide +kernel
theorem dksX1_figureAt_1 : cX1_figureAt.data.toList.drop 24 = dktX1_figureAt_1 := dk_seg dksX1_figureAt_0 24 rfl rfl
theorem dX1_figureAt_0 : decode cX1_figureAt 0 = .ok (.aload_n 0, 1) := dk_42 (dk_at dksX1_figureAt_0 0 rfl rfl)
theorem dX1_figureAt_1 : decode cX1_figureAt 1 = .ok (.iload_n 1, 1) := dk_27 (dk_at dksX1_figureAt_0 1 rfl rfl)
theorem dX1_figureAt_2 : decode cX1_figureAt 2 = .ok (.iload_n 2, 1) := dk_28 (dk_at dksX1_figureAt_0 2 rfl rfl)
theorem dX1_figureAt_3 : decode cX1_figureAt 3 = .ok (.invokevirtual 172, 3) := dk_182 0 172 (dk_at dksX1_figureAt_0 3 rfl rfl)
theorem dX1_figureAt_6 : decode cX1_figureAt 6 = .ok (.bipush 49, 2) := dk_16 49 (dk_at dksX1_figureAt_0 6 rfl rfl)
theorem dX1_figureAt_8 : decode cX1_figureAt 8 = .ok (.bipush 57, 2) := dk_16 57 (dk_at dksX1_figureAt_0 8 rfl rfl)
theorem dX1_figureAt_10 : decode cX1_figureAt 10 = .ok (.invokestatic 117, 3) := dk_184 0 117 (dk_at dksX1_figureAt_0 10 rfl rfl)
theorem dX1_figureAt_13 : decode cX1_figureAt 13 = .ok (.ifCond .eq 15, 3) := dk_153 0 15 (dk_at dksX1_figureAt_0 13 rfl rfl)
theorem dX1_figureAt_16 : decode cX1_figureAt 16 = .ok (.aload_n 0, 1) := dk_42 (dk_at dksX1_figureAt_0 16 rfl rfl)
theorem dX1_figureAt_17 : decode cX1_figureAt 17 = .ok (.iload_n 1, 1) := dk_27 (dk_at dksX1_figureAt_0 17 rfl rfl)
theorem dX1_figureAt_18 : decode cX1_figureAt 18 = .ok (.iload_n 2, 1) := dk_28 (dk_at dksX1_figureAt_0 18 rfl rfl)
theorem dX1_figureAt_19 : decode cX1_figureAt 19 = .ok (.invokevirtual 172, 3) := dk_182 0 172 (dk_at dksX1_figureAt_0 19 rfl rfl)
theorem dX1_figureAt_22 : decode cX1_figureAt 22 = .ok (.bipush 48, 2) := dk_16 48 (dk_at dksX1_figureAt_0 22 rfl rfl)
theorem dX1_figureAt_24 : decode cX1_figureAt 24 = .ok (.isub, 1) := dk_100 (dk_at dksX1_figureAt_1 0 rfl rfl)
theorem dX1_figureAt_25 : decode cX1_figureAt 25 = .ok (.goto 4, 3) := dk_167 0 4 (dk_at dksX1_figureAt_1 1 rfl rfl)
theorem dX1_figureAt_28 : decode cX1_figureAt 28 = .ok (.iconst 0, 1) := dk_3 (dk_at dksX1_figureAt_1 4 rfl rfl)
theorem dX1_figureAt_29 : decode cX1_figureAt 29 = .ok (.ireturn, 1) := dk_172 (dk_at dksX1_figureAt_1 5 rfl rfl)
abbrev cX1_comesAgain : ByteArray := prog_8_method_35_code
def yX1_comesAgain : MethodName := ⟨RX1, "comesAgain", "(II)V"⟩
def dkwX1_comesAgain_1 : List UInt8 := [42, 180, 0, 44, 21, 5, 46, 182, 0, 168, 132, 5, 1, 167, 255, 236, 132, 4, 1, 167, 255, 221, 177]
abbrev dktX1_comesAgain_1 : List UInt8 := dkwX1_comesAgain_1 ++ []
def dkwX1_comesAgain_0 : List UInt8 := [42, 180, 0, 151, 62, 3, 54, 4, 21, 4, 28, 162, 0, 35, 27, 54, 5, 21, 5, 29, 162, 0, 20, 42]
abbrev dktX1_comesAgain_0 : List UInt8 := dkwX1_comesAgain_0 ++ dktX1_comesAgain_1
theorem dksX1_comesAgain_0 : cX1_comesAgain.data.toList.drop 0 = dktX1_comesAgain_0 := by decide +kernel
theorem dksX1_comesAgain_1 : cX1_comesAgain.data.toList.drop 24 = dktX1_comesAgain_1 := dk_seg dksX1_comesAgain_0 24 rfl rfl
theorem dX1_comesAgain_0 : decode cX1_comesAgain 0 = .ok (.aload_n 0, 1) := dk_42 (dk_at dksX1_comesAgain_0 0 rfl rfl)
theorem dX1_comesAgain_1 : decode cX1_comesAgain 1 = .ok (.getfield 151, 3) := dk_180 0 151 (dk_at dksX1_comesAgain_0 1 rfl rfl)
theorem dX1_comesAgain_4 : decode cX1_comesAgain 4 = .ok (.istore_n 3, 1) := dk_62 (dk_at dksX1_comesAgain_0 4 rfl rfl)
theorem dX1_comesAgain_5 : decode cX1_comesAgain 5 = .ok (.iconst 0, 1) := dk_3 (dk_at dksX1_comesAgain_0 5 rfl rfl)
theorem dX1_comesAgain_6 : decode cX1_comesAgain 6 = .ok (.istore 4, 2) := dk_54 4 (dk_at dksX1_comesAgain_0 6 rfl rfl)
theorem dX1_comesAgain_8 : decode cX1_comesAgain 8 = .ok (.iload 4, 2) := dk_21 4 (dk_at dksX1_comesAgain_0 8 rfl rfl)
theorem dX1_comesAgain_10 : decode cX1_comesAgain 10 = .ok (.iload_n 2, 1) := dk_28 (dk_at dksX1_comesAgain_0 10 rfl rfl)
theorem dX1_comesAgain_11 : decode cX1_comesAgain 11 = .ok (.if_icmp .ge 35, 3) := dk_162 0 35 (dk_at dksX1_comesAgain_0 11 rfl rfl)
theorem dX1_comesAgain_14 : decode cX1_comesAgain 14 = .ok (.iload_n 1, 1) := dk_27 (dk_at dksX1_comesAgain_0 14 rfl rfl)
theorem dX1_comesAgain_15 : decode cX1_comesAgain 15 = .ok (.istore 5, 2) := dk_54 5 (dk_at dksX1_comesAgain_0 15 rfl rfl)
theorem dX1_comesAgain_17 : decode cX1_comesAgain 17 = .ok (.iload 5, 2) := dk_21 5 (dk_at dksX1_comesAgain_0 17 rfl rfl)
theorem dX1_comesAgain_19 : decode cX1_comesAgain 19 = .ok (.iload_n 3, 1) := dk_29 (dk_at dksX1_comesAgain_0 19 rfl rfl)
theorem dX1_comesAgain_20 : decode cX1_comesAgain 20 = .ok (.if_icmp .ge 20, 3) := dk_162 0 20 (dk_at dksX1_comesAgain_0 20 rfl rfl)
theorem dX1_comesAgain_23 : decode cX1_comesAgain 23 = .ok (.aload_n 0, 1) := dk_42 (dk_at dksX1_comesAgain_0 23 rfl rfl)
theorem dX1_comesAgain_24 : decode cX1_comesAgain 24 = .ok (.aload_n 0, 1) := dk_42 (dk_at dksX1_comesAgain_1 0 rfl rfl)
theorem dX1_comesAgain_25 : decode cX1_comesAgain 25 = .ok (.getfield 44, 3) := dk_180 0 44 (dk_at dksX1_comesAgain_1 1 rfl rfl)
theorem dX1_comesAgain_28 : decode cX1_comesAgain 28 = .ok (.iload 5, 2) := dk_21 5 (dk_at dksX1_comesAgain_1 4 rfl rfl)
theorem dX1_comesAgain_30 : decode cX1_comesAgain 30 = .ok (.iaload, 1) := dk_46 (dk_at dksX1_comesAgain_1 6 rfl rfl)
theorem dX1_comesAgain_31 : decode cX1_comesAgain 31 = .ok (.invokevirtual 168, 3) := dk_182 0 168 (dk_at dksX1_comesAgain_1 7 rfl rfl)
theorem dX1_comesAgain_34 : decode cX1_comesAgain 34 = .ok (.iinc 5 1, 3) := dk_132 5 1 (dk_at dksX1_comesAgain_1 10 rfl rfl)
theorem dX1_comesAgain_37 : decode cX1_comesAgain 37 = .ok (.goto (-20), 3) := dk_167 255 236 (dk_at dksX1_comesAgain_1 13 rfl rfl)
theorem dX1_comesAgain_40 : decode cX1_comesAgain 40 = .ok (.iinc 4 1, 3) := dk_132 4 1 (dk_at dksX1_comesAgain_1 16 rfl rfl)
theorem dX1_comesAgain_43 : decode cX1_comesAgain 43 = .ok (.goto (-35), 3) := dk_167 255 221 (dk_at dksX1_comesAgain_1 19 rfl rfl)
theorem dX1_comesAgain_46 : decode cX1_comesAgain 46 = .ok (.return_, 1) := dk_177 (dk_at dksX1_comesAgain_1 22 rfl rfl)
abbrev cX1_tell : ByteArray := prog_8_method_39_code
def yX1_tell : MethodName := ⟨RX1, "tell", "(II)I"⟩
def dkwX1_tell_3 : List UInt8 := [172]
abbrev dktX1_tell_3 : List UInt8 := dkwX1_tell_3 ++ []
def dkwX1_tell_2 : List UInt8 := [180, 0, 164, 153, 0, 8, 16, 254, 167, 0, 16, 42, 27, 4, 3, 42, 180, 0, 22, 28, 46, 182, 0, 160]
abbrev dktX1_tell_2 : List UInt8 := dkwX1_tell_2 ++ dktX1_tell_3
def dkwX1_tell_1 : List UInt8 := [156, 0, 9, 42, 4, 182, 0, 134, 172, 42, 28, 182, 0, 182, 16, 247, 159, 0, 6, 16, 252, 172, 42]
abbrev dktX1_tell_1 : List UInt8 := dkwX1_tell_1 ++ dktX1_tell_2
def dkwX1_tell_0 : List UInt8 := [27, 184, 0, 154, 153, 0, 10, 28, 184, 0, 145, 154, 0, 5, 2, 172, 42, 180, 0, 22, 28, 46]
abbrev dktX1_tell_0 : List UInt8 := dkwX1_tell_0 ++ dktX1_tell_1
theorem dksX1_tell_0 : cX1_tell.data.toList.drop 0 = dktX1_tell_0 := by decide +kernel
theorem dksX1_tell_1 : cX1_tell.data.toList.drop 22 = dktX1_tell_1 := dk_seg dksX1_tell_0 22 rfl rfl
theorem dksX1_tell_2 : cX1_tell.data.toList.drop 45 = dktX1_tell_2 := dk_seg dksX1_tell_1 23 rfl rfl
theorem dksX1_tell_3 : cX1_tell.data.toList.drop 69 = dktX1_tell_3 := dk_seg dksX1_tell_2 24 rfl rfl
theorem dX1_tell_0 : decode cX1_tell 0 = .ok (.iload_n 1, 1) := dk_27 (dk_at dksX1_tell_0 0 rfl rfl)
theorem dX1_tell_1 : decode cX1_tell 1 = .ok (.invokestatic 154, 3) := dk_184 0 154 (dk_at dksX1_tell_0 1 rfl rfl)
theorem dX1_tell_4 : decode cX1_tell 4 = .ok (.ifCond .eq 10, 3) := dk_153 0 10 (dk_at dksX1_tell_0 4 rfl rfl)
theorem dX1_tell_7 : decode cX1_tell 7 = .ok (.iload_n 2, 1) := dk_28 (dk_at dksX1_tell_0 7 rfl rfl)
theorem dX1_tell_8 : decode cX1_tell 8 = .ok (.invokestatic 145, 3) := dk_184 0 145 (dk_at dksX1_tell_0 8 rfl rfl)
theorem dX1_tell_11 : decode cX1_tell 11 = .ok (.ifCond .ne 5, 3) := dk_154 0 5 (dk_at dksX1_tell_0 11 rfl rfl)
theorem dX1_tell_14 : decode cX1_tell 14 = .ok (.iconst (-1), 1) := dk_2 (dk_at dksX1_tell_0 14 rfl rfl)
theorem dX1_tell_15 : decode cX1_tell 15 = .ok (.ireturn, 1) := dk_172 (dk_at dksX1_tell_0 15 rfl rfl)
theorem dX1_tell_16 : decode cX1_tell 16 = .ok (.aload_n 0, 1) := dk_42 (dk_at dksX1_tell_0 16 rfl rfl)
theorem dX1_tell_17 : decode cX1_tell 17 = .ok (.getfield 22, 3) := dk_180 0 22 (dk_at dksX1_tell_0 17 rfl rfl)
theorem dX1_tell_20 : decode cX1_tell 20 = .ok (.iload_n 2, 1) := dk_28 (dk_at dksX1_tell_0 20 rfl rfl)
theorem dX1_tell_21 : decode cX1_tell 21 = .ok (.iaload, 1) := dk_46 (dk_at dksX1_tell_0 21 rfl rfl)
theorem dX1_tell_22 : decode cX1_tell 22 = .ok (.ifCond .ge 9, 3) := dk_156 0 9 (dk_at dksX1_tell_1 0 rfl rfl)
theorem dX1_tell_25 : decode cX1_tell 25 = .ok (.aload_n 0, 1) := dk_42 (dk_at dksX1_tell_1 3 rfl rfl)
theorem dX1_tell_26 : decode cX1_tell 26 = .ok (.iconst 1, 1) := dk_4 (dk_at dksX1_tell_1 4 rfl rfl)
theorem dX1_tell_27 : decode cX1_tell 27 = .ok (.invokevirtual 134, 3) := dk_182 0 134 (dk_at dksX1_tell_1 5 rfl rfl)
theorem dX1_tell_30 : decode cX1_tell 30 = .ok (.ireturn, 1) := dk_172 (dk_at dksX1_tell_1 8 rfl rfl)
theorem dX1_tell_31 : decode cX1_tell 31 = .ok (.aload_n 0, 1) := dk_42 (dk_at dksX1_tell_1 9 rfl rfl)
theorem dX1_tell_32 : decode cX1_tell 32 = .ok (.iload_n 2, 1) := dk_28 (dk_at dksX1_tell_1 10 rfl rfl)
theorem dX1_tell_33 : decode cX1_tell 33 = .ok (.invokevirtual 182, 3) := dk_182 0 182 (dk_at dksX1_tell_1 11 rfl rfl)
theorem dX1_tell_36 : decode cX1_tell 36 = .ok (.bipush (-9), 2) := dk_16 247 (dk_at dksX1_tell_1 14 rfl rfl)
theorem dX1_tell_38 : decode cX1_tell 38 = .ok (.if_icmp .eq 6, 3) := dk_159 0 6 (dk_at dksX1_tell_1 16 rfl rfl)
theorem dX1_tell_41 : decode cX1_tell 41 = .ok (.bipush (-4), 2) := dk_16 252 (dk_at dksX1_tell_1 19 rfl rfl)
theorem dX1_tell_43 : decode cX1_tell 43 = .ok (.ireturn, 1) := dk_172 (dk_at dksX1_tell_1 21 rfl rfl)
theorem dX1_tell_44 : decode cX1_tell 44 = .ok (.aload_n 0, 1) := dk_42 (dk_at dksX1_tell_1 22 rfl rfl)
theorem dX1_tell_45 : decode cX1_tell 45 = .ok (.getfield 164, 3) := dk_180 0 164 (dk_at dksX1_tell_2 0 rfl rfl)
theorem dX1_tell_48 : decode cX1_tell 48 = .ok (.ifCond .eq 8, 3) := dk_153 0 8 (dk_at dksX1_tell_2 3 rfl rfl)
theorem dX1_tell_51 : decode cX1_tell 51 = .ok (.bipush (-2), 2) := dk_16 254 (dk_at dksX1_tell_2 6 rfl rfl)
theorem dX1_tell_53 : decode cX1_tell 53 = .ok (.goto 16, 3) := dk_167 0 16 (dk_at dksX1_tell_2 8 rfl rfl)
theorem dX1_tell_56 : decode cX1_tell 56 = .ok (.aload_n 0, 1) := dk_42 (dk_at dksX1_tell_2 11 rfl rfl)
theorem dX1_tell_57 : decode cX1_tell 57 = .ok (.iload_n 1, 1) := dk_27 (dk_at dksX1_tell_2 12 rfl rfl)
theorem dX1_tell_58 : decode cX1_tell 58 = .ok (.iconst 1, 1) := dk_4 (dk_at dksX1_tell_2 13 rfl rfl)
theorem dX1_tell_59 : decode cX1_tell 59 = .ok (.iconst 0, 1) := dk_3 (dk_at dksX1_tell_2 14 rfl rfl)
theorem dX1_tell_60 : decode cX1_tell 60 = .ok (.aload_n 0, 1) := dk_42 (dk_at dksX1_tell_2 15 rfl rfl)
theorem dX1_tell_61 : decode cX1_tell 61 = .ok (.getfield 22, 3) := dk_180 0 22 (dk_at dksX1_tell_2 16 rfl rfl)
theorem dX1_tell_64 : decode cX1_tell 64 = .ok (.iload_n 2, 1) := dk_28 (dk_at dksX1_tell_2 19 rfl rfl)
theorem dX1_tell_65 : decode cX1_tell 65 = .ok (.iaload, 1) := dk_46 (dk_at dksX1_tell_2 20 rfl rfl)
theorem dX1_tell_66 : decode cX1_tell 66 = .ok (.invokevirtual 160, 3) := dk_182 0 160 (dk_at dksX1_tell_2 21 rfl rfl)
theorem dX1_tell_69 : decode cX1_tell 69 = .ok (.ireturn, 1) := dk_172 (dk_at dksX1_tell_3 0 rfl rfl)
abbrev cX1_join : ByteArray := prog_8_method_42_code
def yX1_join : MethodName := ⟨RX1, "join", "(III)I"⟩
def dkwX1_join_4 : List UInt8 := [79, 132, 6, 1, 167, 255, 204, 42, 21, 5, 181, 0, 151, 42, 27, 5, 28, 3, 182, 0, 160, 172]
abbrev dktX1_join_4 : List UInt8 := dkwX1_join_4 ++ []
def dkwX1_join_3 : List UInt8 := [42, 28, 21, 6, 182, 0, 148, 167, 0, 17, 42, 29, 21, 6, 42, 180, 0, 29, 28, 46, 100, 182, 0, 148]
abbrev dktX1_join_3 : List UInt8 := dkwX1_join_3 ++ dktX1_join_4
def dkwX1_join_2 : List UInt8 := [21, 6, 21, 5, 162, 0, 51, 42, 180, 0, 44, 21, 6, 21, 6, 42, 180, 0, 29, 28, 46, 162, 0, 13]
abbrev dktX1_join_2 : List UInt8 := dkwX1_join_2 ++ dktX1_join_3
def dkwX1_join_1 : List UInt8 := [28, 46, 42, 180, 0, 29, 29, 46, 96, 54, 5, 21, 5, 16, 40, 164, 0, 6, 16, 254, 172, 3, 54, 6]
abbrev dktX1_join_1 : List UInt8 := dkwX1_join_1 ++ dktX1_join_2
def dkwX1_join_0 : List UInt8 := [42, 27, 184, 0, 154, 28, 29, 182, 0, 188, 54, 4, 21, 4, 156, 0, 6, 21, 4, 172, 42, 180, 0, 29]
abbrev dktX1_join_0 : List UInt8 := dkwX1_join_0 ++ dktX1_join_1
theorem dksX1_join_0 : cX1_join.data.toList.drop 0 = dktX1_join_0 := by decide +kernel
theorem dksX1_join_1 : cX1_join.data.toList.drop 24 = dktX1_join_1 := dk_seg dksX1_join_0 24 rfl rfl
theorem dksX1_join_2 : cX1_join.data.toList.drop 48 = dktX1_join_2 := dk_seg dksX1_join_1 24 rfl rfl
theorem dksX1_join_3 : cX1_join.data.toList.drop 72 = dktX1_join_3 := dk_seg dksX1_join_2 24 rfl rfl
theorem dksX1_join_4 : cX1_join.data.toList.drop 96 = dktX1_join_4 := dk_seg dksX1_join_3 24 rfl rfl
theorem dX1_join_0 : decode cX1_join 0 = .ok (.aload_n 0, 1) := dk_42 (dk_at dksX1_join_0 0 rfl rfl)
theorem dX1_join_1 : decode cX1_join 1 = .ok (.iload_n 1, 1) := dk_27 (dk_at dksX1_join_0 1 rfl rfl)
theorem dX1_join_2 : decode cX1_join 2 = .ok (.invokestatic 154, 3) := dk_184 0 154 (dk_at dksX1_join_0 2 rfl rfl)
theorem dX1_join_5 : decode cX1_join 5 = .ok (.iload_n 2, 1) := dk_28 (dk_at dksX1_join_0 5 rfl rfl)
theorem dX1_join_6 : decode cX1_join 6 = .ok (.iload_n 3, 1) := dk_29 (dk_at dksX1_join_0 6 rfl rfl)
theorem dX1_join_7 : decode cX1_join 7 = .ok (.invokevirtual 188, 3) := dk_182 0 188 (dk_at dksX1_join_0 7 rfl rfl)
theorem dX1_join_10 : decode cX1_join 10 = .ok (.istore 4, 2) := dk_54 4 (dk_at dksX1_join_0 10 rfl rfl)
theorem dX1_join_12 : decode cX1_join 12 = .ok (.iload 4, 2) := dk_21 4 (dk_at dksX1_join_0 12 rfl rfl)
theorem dX1_join_14 : decode cX1_join 14 = .ok (.ifCond .ge 6, 3) := dk_156 0 6 (dk_at dksX1_join_0 14 rfl rfl)
theorem dX1_join_17 : decode cX1_join 17 = .ok (.iload 4, 2) := dk_21 4 (dk_at dksX1_join_0 17 rfl rfl)
theorem dX1_join_19 : decode cX1_join 19 = .ok (.ireturn, 1) := dk_172 (dk_at dksX1_join_0 19 rfl rfl)
theorem dX1_join_20 : decode cX1_join 20 = .ok (.aload_n 0, 1) := dk_42 (dk_at dksX1_join_0 20 rfl rfl)
theorem dX1_join_21 : decode cX1_join 21 = .ok (.getfield 29, 3) := dk_180 0 29 (dk_at dksX1_join_0 21 rfl rfl)
theorem dX1_join_24 : decode cX1_join 24 = .ok (.iload_n 2, 1) := dk_28 (dk_at dksX1_join_1 0 rfl rfl)
theorem dX1_join_25 : decode cX1_join 25 = .ok (.iaload, 1) := dk_46 (dk_at dksX1_join_1 1 rfl rfl)
theorem dX1_join_26 : decode cX1_join 26 = .ok (.aload_n 0, 1) := dk_42 (dk_at dksX1_join_1 2 rfl rfl)
theorem dX1_join_27 : decode cX1_join 27 = .ok (.getfield 29, 3) := dk_180 0 29 (dk_at dksX1_join_1 3 rfl rfl)
theorem dX1_join_30 : decode cX1_join 30 = .ok (.iload_n 3, 1) := dk_29 (dk_at dksX1_join_1 6 rfl rfl)
theorem dX1_join_31 : decode cX1_join 31 = .ok (.iaload, 1) := dk_46 (dk_at dksX1_join_1 7 rfl rfl)
theorem dX1_join_32 : decode cX1_join 32 = .ok (.iadd, 1) := dk_96 (dk_at dksX1_join_1 8 rfl rfl)
theorem dX1_join_33 : decode cX1_join 33 = .ok (.istore 5, 2) := dk_54 5 (dk_at dksX1_join_1 9 rfl rfl)
theorem dX1_join_35 : decode cX1_join 35 = .ok (.iload 5, 2) := dk_21 5 (dk_at dksX1_join_1 11 rfl rfl)
theorem dX1_join_37 : decode cX1_join 37 = .ok (.bipush 40, 2) := dk_16 40 (dk_at dksX1_join_1 13 rfl rfl)
theorem dX1_join_39 : decode cX1_join 39 = .ok (.if_icmp .le 6, 3) := dk_164 0 6 (dk_at dksX1_join_1 15 rfl rfl)
theorem dX1_join_42 : decode cX1_join 42 = .ok (.bipush (-2), 2) := dk_16 254 (dk_at dksX1_join_1 18 rfl rfl)
theorem dX1_join_44 : decode cX1_join 44 = .ok (.ireturn, 1) := dk_172 (dk_at dksX1_join_1 20 rfl rfl)
theorem dX1_join_45 : decode cX1_join 45 = .ok (.iconst 0, 1) := dk_3 (dk_at dksX1_join_1 21 rfl rfl)
theorem dX1_join_46 : decode cX1_join 46 = .ok (.istore 6, 2) := dk_54 6 (dk_at dksX1_join_1 22 rfl rfl)
theorem dX1_join_48 : decode cX1_join 48 = .ok (.iload 6, 2) := dk_21 6 (dk_at dksX1_join_2 0 rfl rfl)
theorem dX1_join_50 : decode cX1_join 50 = .ok (.iload 5, 2) := dk_21 5 (dk_at dksX1_join_2 2 rfl rfl)
theorem dX1_join_52 : decode cX1_join 52 = .ok (.if_icmp .ge 51, 3) := dk_162 0 51 (dk_at dksX1_join_2 4 rfl rfl)
theorem dX1_join_55 : decode cX1_join 55 = .ok (.aload_n 0, 1) := dk_42 (dk_at dksX1_join_2 7 rfl rfl)
theorem dX1_join_56 : decode cX1_join 56 = .ok (.getfield 44, 3) := dk_180 0 44 (dk_at dksX1_join_2 8 rfl rfl)
theorem dX1_join_59 : decode cX1_join 59 = .ok (.iload 6, 2) := dk_21 6 (dk_at dksX1_join_2 11 rfl rfl)
theorem dX1_join_61 : decode cX1_join 61 = .ok (.iload 6, 2) := dk_21 6 (dk_at dksX1_join_2 13 rfl rfl)
theorem dX1_join_63 : decode cX1_join 63 = .ok (.aload_n 0, 1) := dk_42 (dk_at dksX1_join_2 15 rfl rfl)
theorem dX1_join_64 : decode cX1_join 64 = .ok (.getfield 29, 3) := dk_180 0 29 (dk_at dksX1_join_2 16 rfl rfl)
theorem dX1_join_67 : decode cX1_join 67 = .ok (.iload_n 2, 1) := dk_28 (dk_at dksX1_join_2 19 rfl rfl)
theorem dX1_join_68 : decode cX1_join 68 = .ok (.iaload, 1) := dk_46 (dk_at dksX1_join_2 20 rfl rfl)
theorem dX1_join_69 : decode cX1_join 69 = .ok (.if_icmp .ge 13, 3) := dk_162 0 13 (dk_at dksX1_join_2 21 rfl rfl)
theorem dX1_join_72 : decode cX1_join 72 = .ok (.aload_n 0, 1) := dk_42 (dk_at dksX1_join_3 0 rfl rfl)
theorem dX1_join_73 : decode cX1_join 73 = .ok (.iload_n 2, 1) := dk_28 (dk_at dksX1_join_3 1 rfl rfl)
theorem dX1_join_74 : decode cX1_join 74 = .ok (.iload 6, 2) := dk_21 6 (dk_at dksX1_join_3 2 rfl rfl)
theorem dX1_join_76 : decode cX1_join 76 = .ok (.invokevirtual 148, 3) := dk_182 0 148 (dk_at dksX1_join_3 4 rfl rfl)
theorem dX1_join_79 : decode cX1_join 79 = .ok (.goto 17, 3) := dk_167 0 17 (dk_at dksX1_join_3 7 rfl rfl)
theorem dX1_join_82 : decode cX1_join 82 = .ok (.aload_n 0, 1) := dk_42 (dk_at dksX1_join_3 10 rfl rfl)
theorem dX1_join_83 : decode cX1_join 83 = .ok (.iload_n 3, 1) := dk_29 (dk_at dksX1_join_3 11 rfl rfl)
theorem dX1_join_84 : decode cX1_join 84 = .ok (.iload 6, 2) := dk_21 6 (dk_at dksX1_join_3 12 rfl rfl)
theorem dX1_join_86 : decode cX1_join 86 = .ok (.aload_n 0, 1) := dk_42 (dk_at dksX1_join_3 14 rfl rfl)
theorem dX1_join_87 : decode cX1_join 87 = .ok (.getfield 29, 3) := dk_180 0 29 (dk_at dksX1_join_3 15 rfl rfl)
theorem dX1_join_90 : decode cX1_join 90 = .ok (.iload_n 2, 1) := dk_28 (dk_at dksX1_join_3 18 rfl rfl)
theorem dX1_join_91 : decode cX1_join 91 = .ok (.iaload, 1) := dk_46 (dk_at dksX1_join_3 19 rfl rfl)
theorem dX1_join_92 : decode cX1_join 92 = .ok (.isub, 1) := dk_100 (dk_at dksX1_join_3 20 rfl rfl)
theorem dX1_join_93 : decode cX1_join 93 = .ok (.invokevirtual 148, 3) := dk_182 0 148 (dk_at dksX1_join_3 21 rfl rfl)
theorem dX1_join_96 : decode cX1_join 96 = .ok (.iastore, 1) := dk_79 (dk_at dksX1_join_4 0 rfl rfl)
theorem dX1_join_97 : decode cX1_join 97 = .ok (.iinc 6 1, 3) := dk_132 6 1 (dk_at dksX1_join_4 1 rfl rfl)
theorem dX1_join_100 : decode cX1_join 100 = .ok (.goto (-52), 3) := dk_167 255 204 (dk_at dksX1_join_4 4 rfl rfl)
theorem dX1_join_103 : decode cX1_join 103 = .ok (.aload_n 0, 1) := dk_42 (dk_at dksX1_join_4 7 rfl rfl)
theorem dX1_join_104 : decode cX1_join 104 = .ok (.iload 5, 2) := dk_21 5 (dk_at dksX1_join_4 8 rfl rfl)
theorem dX1_join_106 : decode cX1_join 106 = .ok (.putfield 151, 3) := dk_181 0 151 (dk_at dksX1_join_4 10 rfl rfl)
theorem dX1_join_109 : decode cX1_join 109 = .ok (.aload_n 0, 1) := dk_42 (dk_at dksX1_join_4 13 rfl rfl)
theorem dX1_join_110 : decode cX1_join 110 = .ok (.iload_n 1, 1) := dk_27 (dk_at dksX1_join_4 14 rfl rfl)
theorem dX1_join_111 : decode cX1_join 111 = .ok (.iconst 2, 1) := dk_5 (dk_at dksX1_join_4 15 rfl rfl)
theorem dX1_join_112 : decode cX1_join 112 = .ok (.iload_n 2, 1) := dk_28 (dk_at dksX1_join_4 16 rfl rfl)
theorem dX1_join_113 : decode cX1_join 113 = .ok (.iconst 0, 1) := dk_3 (dk_at dksX1_join_4 17 rfl rfl)
theorem dX1_join_114 : decode cX1_join 114 = .ok (.invokevirtual 160, 3) := dk_182 0 160 (dk_at dksX1_join_4 18 rfl rfl)
theorem dX1_join_117 : decode cX1_join 117 = .ok (.ireturn, 1) := dk_172 (dk_at dksX1_join_4 21 rfl rfl)
abbrev cX1_needTwo : ByteArray := prog_8_method_41_code
def yX1_needTwo : MethodName := ⟨RX1, "needTwo", "(ZII)I"⟩
def dkwX1_needTwo_1 : List UInt8 := [182, 0, 185, 153, 0, 15, 42, 29, 182, 0, 185, 153, 0, 7, 3, 167, 0, 8, 42, 4, 182, 0, 134, 172]
abbrev dktX1_needTwo_1 : List UInt8 := dkwX1_needTwo_1 ++ []
def dkwX1_needTwo_0 : List UInt8 := [28, 184, 0, 154, 153, 0, 14, 29, 184, 0, 154, 153, 0, 7, 27, 154, 0, 7, 2, 167, 0, 28, 42, 28]
abbrev dktX1_needTwo_0 : List UInt8 := dkwX1_needTwo_0 ++ dktX1_needTwo_1
theorem dksX1_needTwo_0 : cX1_needTwo.data.toList.drop 0 = dktX1_needTwo_0 := by decide +kernel
theorem dksX1_needTwo_1 : cX1_needTwo.data.toList.drop 24 = dktX1_needTwo_1 := dk_seg dksX1_needTwo_0 24 rfl rfl
theorem dX1_needTwo_0 : decode cX1_needTwo 0 = .ok (.iload_n 2, 1) := dk_28 (dk_at dksX1_needTwo_0 0 rfl rfl)
theorem dX1_needTwo_1 : decode cX1_needTwo 1 = .ok (.invokestatic 154, 3) := dk_184 0 154 (dk_at dksX1_needTwo_0 1 rfl rfl)
theorem dX1_needTwo_4 : decode cX1_needTwo 4 = .ok (.ifCond .eq 14, 3) := dk_153 0 14 (dk_at dksX1_needTwo_0 4 rfl rfl)
theorem dX1_needTwo_7 : decode cX1_needTwo 7 = .ok (.iload_n 3, 1) := dk_29 (dk_at dksX1_needTwo_0 7 rfl rfl)
theorem dX1_needTwo_8 : decode cX1_needTwo 8 = .ok (.invokestatic 154, 3) := dk_184 0 154 (dk_at dksX1_needTwo_0 8 rfl rfl)
theorem dX1_needTwo_11 : decode cX1_needTwo 11 = .ok (.ifCond .eq 7, 3) := dk_153 0 7 (dk_at dksX1_needTwo_0 11 rfl rfl)
theorem dX1_needTwo_14 : decode cX1_needTwo 14 = .ok (.iload_n 1, 1) := dk_27 (dk_at dksX1_needTwo_0 14 rfl rfl)
theorem dX1_needTwo_15 : decode cX1_needTwo 15 = .ok (.ifCond .ne 7, 3) := dk_154 0 7 (dk_at dksX1_needTwo_0 15 rfl rfl)
theorem dX1_needTwo_18 : decode cX1_needTwo 18 = .ok (.iconst (-1), 1) := dk_2 (dk_at dksX1_needTwo_0 18 rfl rfl)
theorem dX1_needTwo_19 : decode cX1_needTwo 19 = .ok (.goto 28, 3) := dk_167 0 28 (dk_at dksX1_needTwo_0 19 rfl rfl)
theorem dX1_needTwo_22 : decode cX1_needTwo 22 = .ok (.aload_n 0, 1) := dk_42 (dk_at dksX1_needTwo_0 22 rfl rfl)
theorem dX1_needTwo_23 : decode cX1_needTwo 23 = .ok (.iload_n 2, 1) := dk_28 (dk_at dksX1_needTwo_0 23 rfl rfl)
theorem dX1_needTwo_24 : decode cX1_needTwo 24 = .ok (.invokevirtual 185, 3) := dk_182 0 185 (dk_at dksX1_needTwo_1 0 rfl rfl)
theorem dX1_needTwo_27 : decode cX1_needTwo 27 = .ok (.ifCond .eq 15, 3) := dk_153 0 15 (dk_at dksX1_needTwo_1 3 rfl rfl)
theorem dX1_needTwo_30 : decode cX1_needTwo 30 = .ok (.aload_n 0, 1) := dk_42 (dk_at dksX1_needTwo_1 6 rfl rfl)
theorem dX1_needTwo_31 : decode cX1_needTwo 31 = .ok (.iload_n 3, 1) := dk_29 (dk_at dksX1_needTwo_1 7 rfl rfl)
theorem dX1_needTwo_32 : decode cX1_needTwo 32 = .ok (.invokevirtual 185, 3) := dk_182 0 185 (dk_at dksX1_needTwo_1 8 rfl rfl)
theorem dX1_needTwo_35 : decode cX1_needTwo 35 = .ok (.ifCond .eq 7, 3) := dk_153 0 7 (dk_at dksX1_needTwo_1 11 rfl rfl)
theorem dX1_needTwo_38 : decode cX1_needTwo 38 = .ok (.iconst 0, 1) := dk_3 (dk_at dksX1_needTwo_1 14 rfl rfl)
theorem dX1_needTwo_39 : decode cX1_needTwo 39 = .ok (.goto 8, 3) := dk_167 0 8 (dk_at dksX1_needTwo_1 15 rfl rfl)
theorem dX1_needTwo_42 : decode cX1_needTwo 42 = .ok (.aload_n 0, 1) := dk_42 (dk_at dksX1_needTwo_1 18 rfl rfl)
theorem dX1_needTwo_43 : decode cX1_needTwo 43 = .ok (.iconst 1, 1) := dk_4 (dk_at dksX1_needTwo_1 19 rfl rfl)
theorem dX1_needTwo_44 : decode cX1_needTwo 44 = .ok (.invokevirtual 134, 3) := dk_182 0 134 (dk_at dksX1_needTwo_1 20 rfl rfl)
theorem dX1_needTwo_47 : decode cX1_needTwo 47 = .ok (.ireturn, 1) := dk_172 (dk_at dksX1_needTwo_1 23 rfl rfl)
abbrev cX1_isThere : ByteArray := prog_8_method_27_code
def yX1_isThere : MethodName := ⟨RX1, "isThere", "(I)Z"⟩
def dkwX1_isThere_0 : List UInt8 := [42, 180, 0, 29, 27, 46, 155, 0, 7, 4, 167, 0, 4, 3, 172]
abbrev dktX1_isThere_0 : List UInt8 := dkwX1_isThere_0 ++ []
theorem dksX1_isThere_0 : cX1_isThere.data.toList.drop 0 = dktX1_isThere_0 := by decide +kernel
theorem dX1_isThere_0 : decode cX1_isThere 0 = .ok (.aload_n 0, 1) := dk_42 (dk_at dksX1_isThere_0 0 rfl rfl)
theorem dX1_isThere_1 : decode cX1_isThere 1 = .ok (.getfield 29, 3) := dk_180 0 29 (dk_at dksX1_isThere_0 1 rfl rfl)
theorem dX1_isThere_4 : decode cX1_isThere 4 = .ok (.iload_n 1, 1) := dk_27 (dk_at dksX1_isThere_0 4 rfl rfl)
theorem dX1_isThere_5 : decode cX1_isThere 5 = .ok (.iaload, 1) := dk_46 (dk_at dksX1_isThere_0 5 rfl rfl)
theorem dX1_isThere_6 : decode cX1_isThere 6 = .ok (.ifCond .lt 7, 3) := dk_155 0 7 (dk_at dksX1_isThere_0 6 rfl rfl)
theorem dX1_isThere_9 : decode cX1_isThere 9 = .ok (.iconst 1, 1) := dk_4 (dk_at dksX1_isThere_0 9 rfl rfl)
theorem dX1_isThere_10 : decode cX1_isThere 10 = .ok (.goto 4, 3) := dk_167 0 4 (dk_at dksX1_isThere_0 10 rfl rfl)
theorem dX1_isThere_13 : decode cX1_isThere 13 = .ok (.iconst 0, 1) := dk_3 (dk_at dksX1_isThere_0 13 rfl rfl)
theorem dX1_isThere_14 : decode cX1_isThere 14 = .ok (.ireturn, 1) := dk_172 (dk_at dksX1_isThere_0 14 rfl rfl)
abbrev cX1_part : ByteArray := prog_8_method_43_code
def yX1_part : MethodName := ⟨RX1, "part", "(IIII)I"⟩
def dkwX1_part_4 : List UInt8 := [132, 5, 1, 167, 255, 230, 42, 21, 4, 181, 0, 151, 42, 27, 5, 28, 3, 182, 0, 160, 172]
abbrev dktX1_part_4 : List UInt8 := dkwX1_part_4 ++ []
def dkwX1_part_3 : List UInt8 := [21, 5, 21, 4, 162, 0, 25, 42, 180, 0, 44, 21, 5, 42, 28, 29, 21, 5, 96, 182, 0, 148, 79]
abbrev dktX1_part_3 : List UInt8 := dkwX1_part_3 ++ dktX1_part_4
def dkwX1_part_2 : List UInt8 := [21, 4, 133, 97, 42, 180, 0, 29, 28, 46, 133, 148, 158, 0, 9, 42, 5, 182, 0, 134, 172, 3, 54, 5]
abbrev dktX1_part_2 : List UInt8 := dkwX1_part_2 ++ dktX1_part_3
def dkwX1_part_1 : List UInt8 := [182, 0, 134, 172, 42, 28, 182, 0, 185, 154, 0, 9, 42, 4, 182, 0, 134, 172, 29, 155, 0, 20, 29, 133]
abbrev dktX1_part_1 : List UInt8 := dkwX1_part_1 ++ dktX1_part_2
def dkwX1_part_0 : List UInt8 := [27, 184, 0, 154, 153, 0, 10, 28, 184, 0, 154, 154, 0, 5, 2, 172, 21, 4, 156, 0, 9, 42, 8]
abbrev dktX1_part_0 : List UInt8 := dkwX1_part_0 ++ dktX1_part_1
theorem dksX1_part_0 : cX1_part.data.toList.drop 0 = dktX1_part_0 := by decide +kernel
theorem dksX1_part_1 : cX1_part.data.toList.drop 23 = dktX1_part_1 := dk_seg dksX1_part_0 23 rfl rfl
theorem dksX1_part_2 : cX1_part.data.toList.drop 47 = dktX1_part_2 := dk_seg dksX1_part_1 24 rfl rfl
theorem dksX1_part_3 : cX1_part.data.toList.drop 71 = dktX1_part_3 := dk_seg dksX1_part_2 24 rfl rfl
theorem dksX1_part_4 : cX1_part.data.toList.drop 94 = dktX1_part_4 := dk_seg dksX1_part_3 23 rfl rfl
theorem dX1_part_0 : decode cX1_part 0 = .ok (.iload_n 1, 1) := dk_27 (dk_at dksX1_part_0 0 rfl rfl)
theorem dX1_part_1 : decode cX1_part 1 = .ok (.invokestatic 154, 3) := dk_184 0 154 (dk_at dksX1_part_0 1 rfl rfl)
theorem dX1_part_4 : decode cX1_part 4 = .ok (.ifCond .eq 10, 3) := dk_153 0 10 (dk_at dksX1_part_0 4 rfl rfl)
theorem dX1_part_7 : decode cX1_part 7 = .ok (.iload_n 2, 1) := dk_28 (dk_at dksX1_part_0 7 rfl rfl)
theorem dX1_part_8 : decode cX1_part 8 = .ok (.invokestatic 154, 3) := dk_184 0 154 (dk_at dksX1_part_0 8 rfl rfl)
theorem dX1_part_11 : decode cX1_part 11 = .ok (.ifCond .ne 5, 3) := dk_154 0 5 (dk_at dksX1_part_0 11 rfl rfl)
theorem dX1_part_14 : decode cX1_part 14 = .ok (.iconst (-1), 1) := dk_2 (dk_at dksX1_part_0 14 rfl rfl)
theorem dX1_part_15 : decode cX1_part 15 = .ok (.ireturn, 1) := dk_172 (dk_at dksX1_part_0 15 rfl rfl)
theorem dX1_part_16 : decode cX1_part 16 = .ok (.iload 4, 2) := dk_21 4 (dk_at dksX1_part_0 16 rfl rfl)
theorem dX1_part_18 : decode cX1_part 18 = .ok (.ifCond .ge 9, 3) := dk_156 0 9 (dk_at dksX1_part_0 18 rfl rfl)
theorem dX1_part_21 : decode cX1_part 21 = .ok (.aload_n 0, 1) := dk_42 (dk_at dksX1_part_0 21 rfl rfl)
theorem dX1_part_22 : decode cX1_part 22 = .ok (.iconst 5, 1) := dk_8 (dk_at dksX1_part_0 22 rfl rfl)
theorem dX1_part_23 : decode cX1_part 23 = .ok (.invokevirtual 134, 3) := dk_182 0 134 (dk_at dksX1_part_1 0 rfl rfl)
theorem dX1_part_26 : decode cX1_part 26 = .ok (.ireturn, 1) := dk_172 (dk_at dksX1_part_1 3 rfl rfl)
theorem dX1_part_27 : decode cX1_part 27 = .ok (.aload_n 0, 1) := dk_42 (dk_at dksX1_part_1 4 rfl rfl)
theorem dX1_part_28 : decode cX1_part 28 = .ok (.iload_n 2, 1) := dk_28 (dk_at dksX1_part_1 5 rfl rfl)
theorem dX1_part_29 : decode cX1_part 29 = .ok (.invokevirtual 185, 3) := dk_182 0 185 (dk_at dksX1_part_1 6 rfl rfl)
theorem dX1_part_32 : decode cX1_part 32 = .ok (.ifCond .ne 9, 3) := dk_154 0 9 (dk_at dksX1_part_1 9 rfl rfl)
theorem dX1_part_35 : decode cX1_part 35 = .ok (.aload_n 0, 1) := dk_42 (dk_at dksX1_part_1 12 rfl rfl)
theorem dX1_part_36 : decode cX1_part 36 = .ok (.iconst 1, 1) := dk_4 (dk_at dksX1_part_1 13 rfl rfl)
theorem dX1_part_37 : decode cX1_part 37 = .ok (.invokevirtual 134, 3) := dk_182 0 134 (dk_at dksX1_part_1 14 rfl rfl)
theorem dX1_part_40 : decode cX1_part 40 = .ok (.ireturn, 1) := dk_172 (dk_at dksX1_part_1 17 rfl rfl)
theorem dX1_part_41 : decode cX1_part 41 = .ok (.iload_n 3, 1) := dk_29 (dk_at dksX1_part_1 18 rfl rfl)
theorem dX1_part_42 : decode cX1_part 42 = .ok (.ifCond .lt 20, 3) := dk_155 0 20 (dk_at dksX1_part_1 19 rfl rfl)
theorem dX1_part_45 : decode cX1_part 45 = .ok (.iload_n 3, 1) := dk_29 (dk_at dksX1_part_1 22 rfl rfl)
theorem dX1_part_46 : decode cX1_part 46 = .ok (.i2l, 1) := dk_133 (dk_at dksX1_part_1 23 rfl rfl)
theorem dX1_part_47 : decode cX1_part 47 = .ok (.iload 4, 2) := dk_21 4 (dk_at dksX1_part_2 0 rfl rfl)
theorem dX1_part_49 : decode cX1_part 49 = .ok (.i2l, 1) := dk_133 (dk_at dksX1_part_2 2 rfl rfl)
theorem dX1_part_50 : decode cX1_part 50 = .ok (.ladd, 1) := dk_97 (dk_at dksX1_part_2 3 rfl rfl)
theorem dX1_part_51 : decode cX1_part 51 = .ok (.aload_n 0, 1) := dk_42 (dk_at dksX1_part_2 4 rfl rfl)
theorem dX1_part_52 : decode cX1_part 52 = .ok (.getfield 29, 3) := dk_180 0 29 (dk_at dksX1_part_2 5 rfl rfl)
theorem dX1_part_55 : decode cX1_part 55 = .ok (.iload_n 2, 1) := dk_28 (dk_at dksX1_part_2 8 rfl rfl)
theorem dX1_part_56 : decode cX1_part 56 = .ok (.iaload, 1) := dk_46 (dk_at dksX1_part_2 9 rfl rfl)
theorem dX1_part_57 : decode cX1_part 57 = .ok (.i2l, 1) := dk_133 (dk_at dksX1_part_2 10 rfl rfl)
theorem dX1_part_58 : decode cX1_part 58 = .ok (.lcmp, 1) := dk_148 (dk_at dksX1_part_2 11 rfl rfl)
theorem dX1_part_59 : decode cX1_part 59 = .ok (.ifCond .le 9, 3) := dk_158 0 9 (dk_at dksX1_part_2 12 rfl rfl)
theorem dX1_part_62 : decode cX1_part 62 = .ok (.aload_n 0, 1) := dk_42 (dk_at dksX1_part_2 15 rfl rfl)
theorem dX1_part_63 : decode cX1_part 63 = .ok (.iconst 2, 1) := dk_5 (dk_at dksX1_part_2 16 rfl rfl)
theorem dX1_part_64 : decode cX1_part 64 = .ok (.invokevirtual 134, 3) := dk_182 0 134 (dk_at dksX1_part_2 17 rfl rfl)
theorem dX1_part_67 : decode cX1_part 67 = .ok (.ireturn, 1) := dk_172 (dk_at dksX1_part_2 20 rfl rfl)
theorem dX1_part_68 : decode cX1_part 68 = .ok (.iconst 0, 1) := dk_3 (dk_at dksX1_part_2 21 rfl rfl)
theorem dX1_part_69 : decode cX1_part 69 = .ok (.istore 5, 2) := dk_54 5 (dk_at dksX1_part_2 22 rfl rfl)
theorem dX1_part_71 : decode cX1_part 71 = .ok (.iload 5, 2) := dk_21 5 (dk_at dksX1_part_3 0 rfl rfl)
theorem dX1_part_73 : decode cX1_part 73 = .ok (.iload 4, 2) := dk_21 4 (dk_at dksX1_part_3 2 rfl rfl)
theorem dX1_part_75 : decode cX1_part 75 = .ok (.if_icmp .ge 25, 3) := dk_162 0 25 (dk_at dksX1_part_3 4 rfl rfl)
theorem dX1_part_78 : decode cX1_part 78 = .ok (.aload_n 0, 1) := dk_42 (dk_at dksX1_part_3 7 rfl rfl)
theorem dX1_part_79 : decode cX1_part 79 = .ok (.getfield 44, 3) := dk_180 0 44 (dk_at dksX1_part_3 8 rfl rfl)
theorem dX1_part_82 : decode cX1_part 82 = .ok (.iload 5, 2) := dk_21 5 (dk_at dksX1_part_3 11 rfl rfl)
theorem dX1_part_84 : decode cX1_part 84 = .ok (.aload_n 0, 1) := dk_42 (dk_at dksX1_part_3 13 rfl rfl)
theorem dX1_part_85 : decode cX1_part 85 = .ok (.iload_n 2, 1) := dk_28 (dk_at dksX1_part_3 14 rfl rfl)
theorem dX1_part_86 : decode cX1_part 86 = .ok (.iload_n 3, 1) := dk_29 (dk_at dksX1_part_3 15 rfl rfl)
theorem dX1_part_87 : decode cX1_part 87 = .ok (.iload 5, 2) := dk_21 5 (dk_at dksX1_part_3 16 rfl rfl)
theorem dX1_part_89 : decode cX1_part 89 = .ok (.iadd, 1) := dk_96 (dk_at dksX1_part_3 18 rfl rfl)
theorem dX1_part_90 : decode cX1_part 90 = .ok (.invokevirtual 148, 3) := dk_182 0 148 (dk_at dksX1_part_3 19 rfl rfl)
theorem dX1_part_93 : decode cX1_part 93 = .ok (.iastore, 1) := dk_79 (dk_at dksX1_part_3 22 rfl rfl)
theorem dX1_part_94 : decode cX1_part 94 = .ok (.iinc 5 1, 3) := dk_132 5 1 (dk_at dksX1_part_4 0 rfl rfl)
theorem dX1_part_97 : decode cX1_part 97 = .ok (.goto (-26), 3) := dk_167 255 230 (dk_at dksX1_part_4 3 rfl rfl)
theorem dX1_part_100 : decode cX1_part 100 = .ok (.aload_n 0, 1) := dk_42 (dk_at dksX1_part_4 6 rfl rfl)
theorem dX1_part_101 : decode cX1_part 101 = .ok (.iload 4, 2) := dk_21 4 (dk_at dksX1_part_4 7 rfl rfl)
theorem dX1_part_103 : decode cX1_part 103 = .ok (.putfield 151, 3) := dk_181 0 151 (dk_at dksX1_part_4 9 rfl rfl)
theorem dX1_part_106 : decode cX1_part 106 = .ok (.aload_n 0, 1) := dk_42 (dk_at dksX1_part_4 12 rfl rfl)
theorem dX1_part_107 : decode cX1_part 107 = .ok (.iload_n 1, 1) := dk_27 (dk_at dksX1_part_4 13 rfl rfl)
theorem dX1_part_108 : decode cX1_part 108 = .ok (.iconst 2, 1) := dk_5 (dk_at dksX1_part_4 14 rfl rfl)
theorem dX1_part_109 : decode cX1_part 109 = .ok (.iload_n 2, 1) := dk_28 (dk_at dksX1_part_4 15 rfl rfl)
theorem dX1_part_110 : decode cX1_part 110 = .ok (.iconst 0, 1) := dk_3 (dk_at dksX1_part_4 16 rfl rfl)
theorem dX1_part_111 : decode cX1_part 111 = .ok (.invokevirtual 160, 3) := dk_182 0 160 (dk_at dksX1_part_4 17 rfl rfl)
theorem dX1_part_114 : decode cX1_part 114 = .ok (.ireturn, 1) := dk_172 (dk_at dksX1_part_4 20 rfl rfl)
abbrev cX1_turn : ByteArray := prog_8_method_44_code
def yX1_turn : MethodName := ⟨RX1, "turn", "(III)I"⟩
def dkwX1_turn_4 : List UInt8 := [182, 0, 148, 100, 79, 132, 5, 1, 167, 255, 202, 42, 27, 6, 28, 29, 182, 0, 160, 172]
abbrev dktX1_turn_4 : List UInt8 := dkwX1_turn_4 ++ []
def dkwX1_turn_3 : List UInt8 := [180, 0, 151, 4, 100, 21, 5, 100, 182, 0, 148, 167, 0, 17, 42, 180, 0, 110, 4, 100, 42, 28, 21, 5]
abbrev dktX1_turn_3 : List UInt8 := dkwX1_turn_3 ++ dktX1_turn_4
def dkwX1_turn_2 : List UInt8 := [54, 5, 21, 5, 42, 180, 0, 151, 162, 0, 51, 42, 180, 0, 44, 21, 5, 29, 154, 0, 20, 42, 28, 42]
abbrev dktX1_turn_2 : List UInt8 := dkwX1_turn_2 ++ dktX1_turn_3
def dkwX1_turn_1 : List UInt8 := [182, 0, 192, 54, 4, 21, 4, 156, 0, 6, 21, 4, 172, 42, 42, 180, 0, 29, 28, 46, 181, 0, 151, 3]
abbrev dktX1_turn_1 : List UInt8 := dkwX1_turn_1 ++ dktX1_turn_2
def dkwX1_turn_0 : List UInt8 := [42, 27, 184, 0, 154, 153, 0, 16, 29, 3, 4, 184, 0, 117, 153, 0, 7, 4, 167, 0, 4, 3, 28]
abbrev dktX1_turn_0 : List UInt8 := dkwX1_turn_0 ++ dktX1_turn_1
theorem dksX1_turn_0 : cX1_turn.data.toList.drop 0 = dktX1_turn_0 := by decide +kernel
theorem dksX1_turn_1 : cX1_turn.data.toList.drop 23 = dktX1_turn_1 := dk_seg dksX1_turn_0 23 rfl rfl
theorem dksX1_turn_2 : cX1_turn.data.toList.drop 47 = dktX1_turn_2 := dk_seg dksX1_turn_1 24 rfl rfl
theorem dksX1_turn_3 : cX1_turn.data.toList.drop 71 = dktX1_turn_3 := dk_seg dksX1_turn_2 24 rfl rfl
theorem dksX1_turn_4 : cX1_turn.data.toList.drop 95 = dktX1_turn_4 := dk_seg dksX1_turn_3 24 rfl rfl
theorem dX1_turn_0 : decode cX1_turn 0 = .ok (.aload_n 0, 1) := dk_42 (dk_at dksX1_turn_0 0 rfl rfl)
theorem dX1_turn_1 : decode cX1_turn 1 = .ok (.iload_n 1, 1) := dk_27 (dk_at dksX1_turn_0 1 rfl rfl)
theorem dX1_turn_2 : decode cX1_turn 2 = .ok (.invokestatic 154, 3) := dk_184 0 154 (dk_at dksX1_turn_0 2 rfl rfl)
theorem dX1_turn_5 : decode cX1_turn 5 = .ok (.ifCond .eq 16, 3) := dk_153 0 16 (dk_at dksX1_turn_0 5 rfl rfl)
theorem dX1_turn_8 : decode cX1_turn 8 = .ok (.iload_n 3, 1) := dk_29 (dk_at dksX1_turn_0 8 rfl rfl)
theorem dX1_turn_9 : decode cX1_turn 9 = .ok (.iconst 0, 1) := dk_3 (dk_at dksX1_turn_0 9 rfl rfl)
theorem dX1_turn_10 : decode cX1_turn 10 = .ok (.iconst 1, 1) := dk_4 (dk_at dksX1_turn_0 10 rfl rfl)
theorem dX1_turn_11 : decode cX1_turn 11 = .ok (.invokestatic 117, 3) := dk_184 0 117 (dk_at dksX1_turn_0 11 rfl rfl)
theorem dX1_turn_14 : decode cX1_turn 14 = .ok (.ifCond .eq 7, 3) := dk_153 0 7 (dk_at dksX1_turn_0 14 rfl rfl)
theorem dX1_turn_17 : decode cX1_turn 17 = .ok (.iconst 1, 1) := dk_4 (dk_at dksX1_turn_0 17 rfl rfl)
theorem dX1_turn_18 : decode cX1_turn 18 = .ok (.goto 4, 3) := dk_167 0 4 (dk_at dksX1_turn_0 18 rfl rfl)
theorem dX1_turn_21 : decode cX1_turn 21 = .ok (.iconst 0, 1) := dk_3 (dk_at dksX1_turn_0 21 rfl rfl)
theorem dX1_turn_22 : decode cX1_turn 22 = .ok (.iload_n 2, 1) := dk_28 (dk_at dksX1_turn_0 22 rfl rfl)
theorem dX1_turn_23 : decode cX1_turn 23 = .ok (.invokevirtual 192, 3) := dk_182 0 192 (dk_at dksX1_turn_1 0 rfl rfl)
theorem dX1_turn_26 : decode cX1_turn 26 = .ok (.istore 4, 2) := dk_54 4 (dk_at dksX1_turn_1 3 rfl rfl)
theorem dX1_turn_28 : decode cX1_turn 28 = .ok (.iload 4, 2) := dk_21 4 (dk_at dksX1_turn_1 5 rfl rfl)
theorem dX1_turn_30 : decode cX1_turn 30 = .ok (.ifCond .ge 6, 3) := dk_156 0 6 (dk_at dksX1_turn_1 7 rfl rfl)
theorem dX1_turn_33 : decode cX1_turn 33 = .ok (.iload 4, 2) := dk_21 4 (dk_at dksX1_turn_1 10 rfl rfl)
theorem dX1_turn_35 : decode cX1_turn 35 = .ok (.ireturn, 1) := dk_172 (dk_at dksX1_turn_1 12 rfl rfl)
theorem dX1_turn_36 : decode cX1_turn 36 = .ok (.aload_n 0, 1) := dk_42 (dk_at dksX1_turn_1 13 rfl rfl)
theorem dX1_turn_37 : decode cX1_turn 37 = .ok (.aload_n 0, 1) := dk_42 (dk_at dksX1_turn_1 14 rfl rfl)
theorem dX1_turn_38 : decode cX1_turn 38 = .ok (.getfield 29, 3) := dk_180 0 29 (dk_at dksX1_turn_1 15 rfl rfl)
theorem dX1_turn_41 : decode cX1_turn 41 = .ok (.iload_n 2, 1) := dk_28 (dk_at dksX1_turn_1 18 rfl rfl)
theorem dX1_turn_42 : decode cX1_turn 42 = .ok (.iaload, 1) := dk_46 (dk_at dksX1_turn_1 19 rfl rfl)
theorem dX1_turn_43 : decode cX1_turn 43 = .ok (.putfield 151, 3) := dk_181 0 151 (dk_at dksX1_turn_1 20 rfl rfl)
theorem dX1_turn_46 : decode cX1_turn 46 = .ok (.iconst 0, 1) := dk_3 (dk_at dksX1_turn_1 23 rfl rfl)
theorem dX1_turn_47 : decode cX1_turn 47 = .ok (.istore 5, 2) := dk_54 5 (dk_at dksX1_turn_2 0 rfl rfl)
theorem dX1_turn_49 : decode cX1_turn 49 = .ok (.iload 5, 2) := dk_21 5 (dk_at dksX1_turn_2 2 rfl rfl)
theorem dX1_turn_51 : decode cX1_turn 51 = .ok (.aload_n 0, 1) := dk_42 (dk_at dksX1_turn_2 4 rfl rfl)
theorem dX1_turn_52 : decode cX1_turn 52 = .ok (.getfield 151, 3) := dk_180 0 151 (dk_at dksX1_turn_2 5 rfl rfl)
theorem dX1_turn_55 : decode cX1_turn 55 = .ok (.if_icmp .ge 51, 3) := dk_162 0 51 (dk_at dksX1_turn_2 8 rfl rfl)
theorem dX1_turn_58 : decode cX1_turn 58 = .ok (.aload_n 0, 1) := dk_42 (dk_at dksX1_turn_2 11 rfl rfl)
theorem dX1_turn_59 : decode cX1_turn 59 = .ok (.getfield 44, 3) := dk_180 0 44 (dk_at dksX1_turn_2 12 rfl rfl)
theorem dX1_turn_62 : decode cX1_turn 62 = .ok (.iload 5, 2) := dk_21 5 (dk_at dksX1_turn_2 15 rfl rfl)
theorem dX1_turn_64 : decode cX1_turn 64 = .ok (.iload_n 3, 1) := dk_29 (dk_at dksX1_turn_2 17 rfl rfl)
theorem dX1_turn_65 : decode cX1_turn 65 = .ok (.ifCond .ne 20, 3) := dk_154 0 20 (dk_at dksX1_turn_2 18 rfl rfl)
theorem dX1_turn_68 : decode cX1_turn 68 = .ok (.aload_n 0, 1) := dk_42 (dk_at dksX1_turn_2 21 rfl rfl)
theorem dX1_turn_69 : decode cX1_turn 69 = .ok (.iload_n 2, 1) := dk_28 (dk_at dksX1_turn_2 22 rfl rfl)
theorem dX1_turn_70 : decode cX1_turn 70 = .ok (.aload_n 0, 1) := dk_42 (dk_at dksX1_turn_2 23 rfl rfl)
theorem dX1_turn_71 : decode cX1_turn 71 = .ok (.getfield 151, 3) := dk_180 0 151 (dk_at dksX1_turn_3 0 rfl rfl)
theorem dX1_turn_74 : decode cX1_turn 74 = .ok (.iconst 1, 1) := dk_4 (dk_at dksX1_turn_3 3 rfl rfl)
theorem dX1_turn_75 : decode cX1_turn 75 = .ok (.isub, 1) := dk_100 (dk_at dksX1_turn_3 4 rfl rfl)
theorem dX1_turn_76 : decode cX1_turn 76 = .ok (.iload 5, 2) := dk_21 5 (dk_at dksX1_turn_3 5 rfl rfl)
theorem dX1_turn_78 : decode cX1_turn 78 = .ok (.isub, 1) := dk_100 (dk_at dksX1_turn_3 7 rfl rfl)
theorem dX1_turn_79 : decode cX1_turn 79 = .ok (.invokevirtual 148, 3) := dk_182 0 148 (dk_at dksX1_turn_3 8 rfl rfl)
theorem dX1_turn_82 : decode cX1_turn 82 = .ok (.goto 17, 3) := dk_167 0 17 (dk_at dksX1_turn_3 11 rfl rfl)
theorem dX1_turn_85 : decode cX1_turn 85 = .ok (.aload_n 0, 1) := dk_42 (dk_at dksX1_turn_3 14 rfl rfl)
theorem dX1_turn_86 : decode cX1_turn 86 = .ok (.getfield 110, 3) := dk_180 0 110 (dk_at dksX1_turn_3 15 rfl rfl)
theorem dX1_turn_89 : decode cX1_turn 89 = .ok (.iconst 1, 1) := dk_4 (dk_at dksX1_turn_3 18 rfl rfl)
theorem dX1_turn_90 : decode cX1_turn 90 = .ok (.isub, 1) := dk_100 (dk_at dksX1_turn_3 19 rfl rfl)
theorem dX1_turn_91 : decode cX1_turn 91 = .ok (.aload_n 0, 1) := dk_42 (dk_at dksX1_turn_3 20 rfl rfl)
theorem dX1_turn_92 : decode cX1_turn 92 = .ok (.iload_n 2, 1) := dk_28 (dk_at dksX1_turn_3 21 rfl rfl)
theorem dX1_turn_93 : decode cX1_turn 93 = .ok (.iload 5, 2) := dk_21 5 (dk_at dksX1_turn_3 22 rfl rfl)
theorem dX1_turn_95 : decode cX1_turn 95 = .ok (.invokevirtual 148, 3) := dk_182 0 148 (dk_at dksX1_turn_4 0 rfl rfl)
theorem dX1_turn_98 : decode cX1_turn 98 = .ok (.isub, 1) := dk_100 (dk_at dksX1_turn_4 3 rfl rfl)
theorem dX1_turn_99 : decode cX1_turn 99 = .ok (.iastore, 1) := dk_79 (dk_at dksX1_turn_4 4 rfl rfl)
theorem dX1_turn_100 : decode cX1_turn 100 = .ok (.iinc 5 1, 3) := dk_132 5 1 (dk_at dksX1_turn_4 5 rfl rfl)
theorem dX1_turn_103 : decode cX1_turn 103 = .ok (.goto (-54), 3) := dk_167 255 202 (dk_at dksX1_turn_4 8 rfl rfl)
theorem dX1_turn_106 : decode cX1_turn 106 = .ok (.aload_n 0, 1) := dk_42 (dk_at dksX1_turn_4 11 rfl rfl)
theorem dX1_turn_107 : decode cX1_turn 107 = .ok (.iload_n 1, 1) := dk_27 (dk_at dksX1_turn_4 12 rfl rfl)
theorem dX1_turn_108 : decode cX1_turn 108 = .ok (.iconst 3, 1) := dk_6 (dk_at dksX1_turn_4 13 rfl rfl)
theorem dX1_turn_109 : decode cX1_turn 109 = .ok (.iload_n 2, 1) := dk_28 (dk_at dksX1_turn_4 14 rfl rfl)
theorem dX1_turn_110 : decode cX1_turn 110 = .ok (.iload_n 3, 1) := dk_29 (dk_at dksX1_turn_4 15 rfl rfl)
theorem dX1_turn_111 : decode cX1_turn 111 = .ok (.invokevirtual 160, 3) := dk_182 0 160 (dk_at dksX1_turn_4 16 rfl rfl)
theorem dX1_turn_114 : decode cX1_turn 114 = .ok (.ireturn, 1) := dk_172 (dk_at dksX1_turn_4 19 rfl rfl)
abbrev cX1_needWord : ByteArray := prog_8_method_40_code
def yX1_needWord : MethodName := ⟨RX1, "needWord", "(ZI)I"⟩
def dkwX1_needWord_1 : List UInt8 := [167, 0, 8, 42, 4, 182, 0, 134, 172]
abbrev dktX1_needWord_1 : List UInt8 := dkwX1_needWord_1 ++ []
def dkwX1_needWord_0 : List UInt8 := [28, 184, 0, 154, 153, 0, 7, 27, 154, 0, 7, 2, 167, 0, 20, 42, 28, 182, 0, 185, 153, 0, 7, 3]
abbrev dktX1_needWord_0 : List UInt8 := dkwX1_needWord_0 ++ dktX1_needWord_1
theorem dksX1_needWord_0 : cX1_needWord.data.toList.drop 0 = dktX1_needWord_0 := by decide +kernel
theorem dksX1_needWord_1 : cX1_needWord.data.toList.drop 24 = dktX1_needWord_1 := dk_seg dksX1_needWord_0 24 rfl rfl
theorem dX1_needWord_0 : decode cX1_needWord 0 = .ok (.iload_n 2, 1) := dk_28 (dk_at dksX1_needWord_0 0 rfl rfl)
theorem dX1_needWord_1 : decode cX1_needWord 1 = .ok (.invokestatic 154, 3) := dk_184 0 154 (dk_at dksX1_needWord_0 1 rfl rfl)
theorem dX1_needWord_4 : decode cX1_needWord 4 = .ok (.ifCond .eq 7, 3) := dk_153 0 7 (dk_at dksX1_needWord_0 4 rfl rfl)
theorem dX1_needWord_7 : decode cX1_needWord 7 = .ok (.iload_n 1, 1) := dk_27 (dk_at dksX1_needWord_0 7 rfl rfl)
theorem dX1_needWord_8 : decode cX1_needWord 8 = .ok (.ifCond .ne 7, 3) := dk_154 0 7 (dk_at dksX1_needWord_0 8 rfl rfl)
theorem dX1_needWord_11 : decode cX1_needWord 11 = .ok (.iconst (-1), 1) := dk_2 (dk_at dksX1_needWord_0 11 rfl rfl)
theorem dX1_needWord_12 : decode cX1_needWord 12 = .ok (.goto 20, 3) := dk_167 0 20 (dk_at dksX1_needWord_0 12 rfl rfl)
theorem dX1_needWord_15 : decode cX1_needWord 15 = .ok (.aload_n 0, 1) := dk_42 (dk_at dksX1_needWord_0 15 rfl rfl)
theorem dX1_needWord_16 : decode cX1_needWord 16 = .ok (.iload_n 2, 1) := dk_28 (dk_at dksX1_needWord_0 16 rfl rfl)
theorem dX1_needWord_17 : decode cX1_needWord 17 = .ok (.invokevirtual 185, 3) := dk_182 0 185 (dk_at dksX1_needWord_0 17 rfl rfl)
theorem dX1_needWord_20 : decode cX1_needWord 20 = .ok (.ifCond .eq 7, 3) := dk_153 0 7 (dk_at dksX1_needWord_0 20 rfl rfl)
theorem dX1_needWord_23 : decode cX1_needWord 23 = .ok (.iconst 0, 1) := dk_3 (dk_at dksX1_needWord_0 23 rfl rfl)
theorem dX1_needWord_24 : decode cX1_needWord 24 = .ok (.goto 8, 3) := dk_167 0 8 (dk_at dksX1_needWord_1 0 rfl rfl)
theorem dX1_needWord_27 : decode cX1_needWord 27 = .ok (.aload_n 0, 1) := dk_42 (dk_at dksX1_needWord_1 3 rfl rfl)
theorem dX1_needWord_28 : decode cX1_needWord 28 = .ok (.iconst 1, 1) := dk_4 (dk_at dksX1_needWord_1 4 rfl rfl)
theorem dX1_needWord_29 : decode cX1_needWord 29 = .ok (.invokevirtual 134, 3) := dk_182 0 134 (dk_at dksX1_needWord_1 5 rfl rfl)
theorem dX1_needWord_32 : decode cX1_needWord 32 = .ok (.ireturn, 1) := dk_172 (dk_at dksX1_needWord_1 8 rfl rfl)
abbrev cX1_erase : ByteArray := prog_8_method_45_code
def yX1_erase : MethodName := ⟨RX1, "erase", "(I)I"⟩
def dkwX1_erase_0 : List UInt8 := [42, 4, 27, 182, 0, 192, 61, 28, 156, 0, 5, 28, 172, 42, 180, 0, 29, 27, 2, 79, 4, 172]
abbrev dktX1_erase_0 : List UInt8 := dkwX1_erase_0 ++ []
theorem dksX1_erase_0 : cX1_erase.data.toList.drop 0 = dktX1_erase_0 := by decide +kernel
theorem dX1_erase_0 : decode cX1_erase 0 = .ok (.aload_n 0, 1) := dk_42 (dk_at dksX1_erase_0 0 rfl rfl)
theorem dX1_erase_1 : decode cX1_erase 1 = .ok (.iconst 1, 1) := dk_4 (dk_at dksX1_erase_0 1 rfl rfl)
theorem dX1_erase_2 : decode cX1_erase 2 = .ok (.iload_n 1, 1) := dk_27 (dk_at dksX1_erase_0 2 rfl rfl)
theorem dX1_erase_3 : decode cX1_erase 3 = .ok (.invokevirtual 192, 3) := dk_182 0 192 (dk_at dksX1_erase_0 3 rfl rfl)
theorem dX1_erase_6 : decode cX1_erase 6 = .ok (.istore_n 2, 1) := dk_61 (dk_at dksX1_erase_0 6 rfl rfl)
theorem dX1_erase_7 : decode cX1_erase 7 = .ok (.iload_n 2, 1) := dk_28 (dk_at dksX1_erase_0 7 rfl rfl)
theorem dX1_erase_8 : decode cX1_erase 8 = .ok (.ifCond .ge 5, 3) := dk_156 0 5 (dk_at dksX1_erase_0 8 rfl rfl)
theorem dX1_erase_11 : decode cX1_erase 11 = .ok (.iload_n 2, 1) := dk_28 (dk_at dksX1_erase_0 11 rfl rfl)
theorem dX1_erase_12 : decode cX1_erase 12 = .ok (.ireturn, 1) := dk_172 (dk_at dksX1_erase_0 12 rfl rfl)
theorem dX1_erase_13 : decode cX1_erase 13 = .ok (.aload_n 0, 1) := dk_42 (dk_at dksX1_erase_0 13 rfl rfl)
theorem dX1_erase_14 : decode cX1_erase 14 = .ok (.getfield 29, 3) := dk_180 0 29 (dk_at dksX1_erase_0 14 rfl rfl)
theorem dX1_erase_17 : decode cX1_erase 17 = .ok (.iload_n 1, 1) := dk_27 (dk_at dksX1_erase_0 17 rfl rfl)
theorem dX1_erase_18 : decode cX1_erase 18 = .ok (.iconst (-1), 1) := dk_2 (dk_at dksX1_erase_0 18 rfl rfl)
theorem dX1_erase_19 : decode cX1_erase 19 = .ok (.iastore, 1) := dk_79 (dk_at dksX1_erase_0 19 rfl rfl)
theorem dX1_erase_20 : decode cX1_erase 20 = .ok (.iconst 1, 1) := dk_4 (dk_at dksX1_erase_0 20 rfl rfl)
theorem dX1_erase_21 : decode cX1_erase 21 = .ok (.ireturn, 1) := dk_172 (dk_at dksX1_erase_0 21 rfl rfl)
abbrev cX1_size : ByteArray := prog_8_method_46_code
def yX1_size : MethodName := ⟨RX1, "size", "(I)I"⟩
def dkwX1_size_0 : List UInt8 := [42, 4, 27, 182, 0, 192, 61, 28, 156, 0, 7, 28, 167, 0, 9, 42, 180, 0, 29, 27, 46, 172]
abbrev dktX1_size_0 : List UInt8 := dkwX1_size_0 ++ []
theorem dksX1_size_0 : cX1_size.data.toList.drop 0 = dktX1_size_0 := by decide +kernel
theorem dX1_size_0 : decode cX1_size 0 = .ok (.aload_n 0, 1) := dk_42 (dk_at dksX1_size_0 0 rfl rfl)
theorem dX1_size_1 : decode cX1_size 1 = .ok (.iconst 1, 1) := dk_4 (dk_at dksX1_size_0 1 rfl rfl)
theorem dX1_size_2 : decode cX1_size 2 = .ok (.iload_n 1, 1) := dk_27 (dk_at dksX1_size_0 2 rfl rfl)
theorem dX1_size_3 : decode cX1_size 3 = .ok (.invokevirtual 192, 3) := dk_182 0 192 (dk_at dksX1_size_0 3 rfl rfl)
theorem dX1_size_6 : decode cX1_size 6 = .ok (.istore_n 2, 1) := dk_61 (dk_at dksX1_size_0 6 rfl rfl)
theorem dX1_size_7 : decode cX1_size 7 = .ok (.iload_n 2, 1) := dk_28 (dk_at dksX1_size_0 7 rfl rfl)
theorem dX1_size_8 : decode cX1_size 8 = .ok (.ifCond .ge 7, 3) := dk_156 0 7 (dk_at dksX1_size_0 8 rfl rfl)
theorem dX1_size_11 : decode cX1_size 11 = .ok (.iload_n 2, 1) := dk_28 (dk_at dksX1_size_0 11 rfl rfl)
theorem dX1_size_12 : decode cX1_size 12 = .ok (.goto 9, 3) := dk_167 0 9 (dk_at dksX1_size_0 12 rfl rfl)
theorem dX1_size_15 : decode cX1_size 15 = .ok (.aload_n 0, 1) := dk_42 (dk_at dksX1_size_0 15 rfl rfl)
theorem dX1_size_16 : decode cX1_size 16 = .ok (.getfield 29, 3) := dk_180 0 29 (dk_at dksX1_size_0 16 rfl rfl)
theorem dX1_size_19 : decode cX1_size 19 = .ok (.iload_n 1, 1) := dk_27 (dk_at dksX1_size_0 19 rfl rfl)
theorem dX1_size_20 : decode cX1_size 20 = .ok (.iaload, 1) := dk_46 (dk_at dksX1_size_0 20 rfl rfl)
theorem dX1_size_21 : decode cX1_size 21 = .ok (.ireturn, 1) := dk_172 (dk_at dksX1_size_0 21 rfl rfl)
abbrev cX1_letter : ByteArray := prog_8_method_47_code
def yX1_letter : MethodName := ⟨RX1, "letter", "(II)I"⟩
def dkwX1_letter_1 : List UInt8 := [100, 184, 0, 117, 153, 0, 12, 42, 27, 28, 182, 0, 148, 167, 0, 8, 42, 5, 182, 0, 134, 172]
abbrev dktX1_letter_1 : List UInt8 := dkwX1_letter_1 ++ []
def dkwX1_letter_0 : List UInt8 := [42, 4, 27, 182, 0, 192, 62, 29, 156, 0, 7, 29, 167, 0, 33, 28, 3, 42, 180, 0, 29, 27, 46, 4]
abbrev dktX1_letter_0 : List UInt8 := dkwX1_letter_0 ++ dktX1_letter_1
theorem dksX1_letter_0 : cX1_letter.data.toList.drop 0 = dktX1_letter_0 := by decide +kernel
theorem dksX1_letter_1 : cX1_letter.data.toList.drop 24 = dktX1_letter_1 := dk_seg dksX1_letter_0 24 rfl rfl
theorem dX1_letter_0 : decode cX1_letter 0 = .ok (.aload_n 0, 1) := dk_42 (dk_at dksX1_letter_0 0 rfl rfl)
theorem dX1_letter_1 : decode cX1_letter 1 = .ok (.iconst 1, 1) := dk_4 (dk_at dksX1_letter_0 1 rfl rfl)
theorem dX1_letter_2 : decode cX1_letter 2 = .ok (.iload_n 1, 1) := dk_27 (dk_at dksX1_letter_0 2 rfl rfl)
theorem dX1_letter_3 : decode cX1_letter 3 = .ok (.invokevirtual 192, 3) := dk_182 0 192 (dk_at dksX1_letter_0 3 rfl rfl)
theorem dX1_letter_6 : decode cX1_letter 6 = .ok (.istore_n 3, 1) := dk_62 (dk_at dksX1_letter_0 6 rfl rfl)
theorem dX1_letter_7 : decode cX1_letter 7 = .ok (.iload_n 3, 1) := dk_29 (dk_at dksX1_letter_0 7 rfl rfl)
theorem dX1_letter_8 : decode cX1_letter 8 = .ok (.ifCond .ge 7, 3) := dk_156 0 7 (dk_at dksX1_letter_0 8 rfl rfl)
theorem dX1_letter_11 : decode cX1_letter 11 = .ok (.iload_n 3, 1) := dk_29 (dk_at dksX1_letter_0 11 rfl rfl)
theorem dX1_letter_12 : decode cX1_letter 12 = .ok (.goto 33, 3) := dk_167 0 33 (dk_at dksX1_letter_0 12 rfl rfl)
theorem dX1_letter_15 : decode cX1_letter 15 = .ok (.iload_n 2, 1) := dk_28 (dk_at dksX1_letter_0 15 rfl rfl)
theorem dX1_letter_16 : decode cX1_letter 16 = .ok (.iconst 0, 1) := dk_3 (dk_at dksX1_letter_0 16 rfl rfl)
theorem dX1_letter_17 : decode cX1_letter 17 = .ok (.aload_n 0, 1) := dk_42 (dk_at dksX1_letter_0 17 rfl rfl)
theorem dX1_letter_18 : decode cX1_letter 18 = .ok (.getfield 29, 3) := dk_180 0 29 (dk_at dksX1_letter_0 18 rfl rfl)
theorem dX1_letter_21 : decode cX1_letter 21 = .ok (.iload_n 1, 1) := dk_27 (dk_at dksX1_letter_0 21 rfl rfl)
theorem dX1_letter_22 : decode cX1_letter 22 = .ok (.iaload, 1) := dk_46 (dk_at dksX1_letter_0 22 rfl rfl)
theorem dX1_letter_23 : decode cX1_letter 23 = .ok (.iconst 1, 1) := dk_4 (dk_at dksX1_letter_0 23 rfl rfl)
theorem dX1_letter_24 : decode cX1_letter 24 = .ok (.isub, 1) := dk_100 (dk_at dksX1_letter_1 0 rfl rfl)
theorem dX1_letter_25 : decode cX1_letter 25 = .ok (.invokestatic 117, 3) := dk_184 0 117 (dk_at dksX1_letter_1 1 rfl rfl)
theorem dX1_letter_28 : decode cX1_letter 28 = .ok (.ifCond .eq 12, 3) := dk_153 0 12 (dk_at dksX1_letter_1 4 rfl rfl)
theorem dX1_letter_31 : decode cX1_letter 31 = .ok (.aload_n 0, 1) := dk_42 (dk_at dksX1_letter_1 7 rfl rfl)
theorem dX1_letter_32 : decode cX1_letter 32 = .ok (.iload_n 1, 1) := dk_27 (dk_at dksX1_letter_1 8 rfl rfl)
theorem dX1_letter_33 : decode cX1_letter 33 = .ok (.iload_n 2, 1) := dk_28 (dk_at dksX1_letter_1 9 rfl rfl)
theorem dX1_letter_34 : decode cX1_letter 34 = .ok (.invokevirtual 148, 3) := dk_182 0 148 (dk_at dksX1_letter_1 10 rfl rfl)
theorem dX1_letter_37 : decode cX1_letter 37 = .ok (.goto 8, 3) := dk_167 0 8 (dk_at dksX1_letter_1 13 rfl rfl)
theorem dX1_letter_40 : decode cX1_letter 40 = .ok (.aload_n 0, 1) := dk_42 (dk_at dksX1_letter_1 16 rfl rfl)
theorem dX1_letter_41 : decode cX1_letter 41 = .ok (.iconst 2, 1) := dk_5 (dk_at dksX1_letter_1 17 rfl rfl)
theorem dX1_letter_42 : decode cX1_letter 42 = .ok (.invokevirtual 134, 3) := dk_182 0 134 (dk_at dksX1_letter_1 18 rfl rfl)
theorem dX1_letter_45 : decode cX1_letter 45 = .ok (.ireturn, 1) := dk_172 (dk_at dksX1_letter_1 21 rfl rfl)
abbrev cX1_kind : ByteArray := prog_8_method_48_code
def yX1_kind : MethodName := ⟨RX1, "kind", "(I)I"⟩
def dkwX1_kind_0 : List UInt8 := [42, 4, 27, 182, 0, 192, 61, 28, 156, 0, 7, 28, 167, 0, 9, 42, 180, 0, 35, 27, 46, 172]
abbrev dktX1_kind_0 : List UInt8 := dkwX1_kind_0 ++ []
theorem dksX1_kind_0 : cX1_kind.data.toList.drop 0 = dktX1_kind_0 := by decide +kernel
theorem dX1_kind_0 : decode cX1_kind 0 = .ok (.aload_n 0, 1) := dk_42 (dk_at dksX1_kind_0 0 rfl rfl)
theorem dX1_kind_1 : decode cX1_kind 1 = .ok (.iconst 1, 1) := dk_4 (dk_at dksX1_kind_0 1 rfl rfl)
theorem dX1_kind_2 : decode cX1_kind 2 = .ok (.iload_n 1, 1) := dk_27 (dk_at dksX1_kind_0 2 rfl rfl)
theorem dX1_kind_3 : decode cX1_kind 3 = .ok (.invokevirtual 192, 3) := dk_182 0 192 (dk_at dksX1_kind_0 3 rfl rfl)
theorem dX1_kind_6 : decode cX1_kind 6 = .ok (.istore_n 2, 1) := dk_61 (dk_at dksX1_kind_0 6 rfl rfl)
theorem dX1_kind_7 : decode cX1_kind 7 = .ok (.iload_n 2, 1) := dk_28 (dk_at dksX1_kind_0 7 rfl rfl)
theorem dX1_kind_8 : decode cX1_kind 8 = .ok (.ifCond .ge 7, 3) := dk_156 0 7 (dk_at dksX1_kind_0 8 rfl rfl)
theorem dX1_kind_11 : decode cX1_kind 11 = .ok (.iload_n 2, 1) := dk_28 (dk_at dksX1_kind_0 11 rfl rfl)
theorem dX1_kind_12 : decode cX1_kind 12 = .ok (.goto 9, 3) := dk_167 0 9 (dk_at dksX1_kind_0 12 rfl rfl)
theorem dX1_kind_15 : decode cX1_kind 15 = .ok (.aload_n 0, 1) := dk_42 (dk_at dksX1_kind_0 15 rfl rfl)
theorem dX1_kind_16 : decode cX1_kind 16 = .ok (.getfield 35, 3) := dk_180 0 35 (dk_at dksX1_kind_0 16 rfl rfl)
theorem dX1_kind_19 : decode cX1_kind 19 = .ok (.iload_n 1, 1) := dk_27 (dk_at dksX1_kind_0 19 rfl rfl)
theorem dX1_kind_20 : decode cX1_kind 20 = .ok (.iaload, 1) := dk_46 (dk_at dksX1_kind_0 20 rfl rfl)
theorem dX1_kind_21 : decode cX1_kind 21 = .ok (.ireturn, 1) := dk_172 (dk_at dksX1_kind_0 21 rfl rfl)
abbrev cX1_mark : ByteArray := prog_8_method_50_code
def yX1_mark : MethodName := ⟨RX1, "mark", "(II)I"⟩
def dkwX1_mark_2 : List UInt8 := [54, 4, 21, 4, 153, 0, 12, 42, 27, 28, 182, 0, 196, 167, 0, 8, 42, 6, 182, 0, 134, 172]
abbrev dktX1_mark_2 : List UInt8 := dkwX1_mark_2 ++ []
def dkwX1_mark_1 : List UInt8 := [28, 159, 0, 18, 28, 5, 160, 0, 17, 42, 180, 0, 35, 27, 46, 5, 164, 0, 7, 4, 167, 0, 4, 3]
abbrev dktX1_mark_1 : List UInt8 := dkwX1_mark_1 ++ dktX1_mark_2
def dkwX1_mark_0 : List UInt8 := [42, 28, 4, 7, 184, 0, 117, 27, 182, 0, 192, 62, 29, 156, 0, 5, 29, 172, 42, 180, 0, 35, 27, 46]
abbrev dktX1_mark_0 : List UInt8 := dkwX1_mark_0 ++ dktX1_mark_1
theorem dksX1_mark_0 : cX1_mark.data.toList.drop 0 = dktX1_mark_0 := by decide +kernel
theorem dksX1_mark_1 : cX1_mark.data.toList.drop 24 = dktX1_mark_1 := dk_seg dksX1_mark_0 24 rfl rfl
theorem dksX1_mark_2 : cX1_mark.data.toList.drop 48 = dktX1_mark_2 := dk_seg dksX1_mark_1 24 rfl rfl
theorem dX1_mark_0 : decode cX1_mark 0 = .ok (.aload_n 0, 1) := dk_42 (dk_at dksX1_mark_0 0 rfl rfl)
theorem dX1_mark_1 : decode cX1_mark 1 = .ok (.iload_n 2, 1) := dk_28 (dk_at dksX1_mark_0 1 rfl rfl)
theorem dX1_mark_2 : decode cX1_mark 2 = .ok (.iconst 1, 1) := dk_4 (dk_at dksX1_mark_0 2 rfl rfl)
theorem dX1_mark_3 : decode cX1_mark 3 = .ok (.iconst 4, 1) := dk_7 (dk_at dksX1_mark_0 3 rfl rfl)
theorem dX1_mark_4 : decode cX1_mark 4 = .ok (.invokestatic 117, 3) := dk_184 0 117 (dk_at dksX1_mark_0 4 rfl rfl)
theorem dX1_mark_7 : decode cX1_mark 7 = .ok (.iload_n 1, 1) := dk_27 (dk_at dksX1_mark_0 7 rfl rfl)
theorem dX1_mark_8 : decode cX1_mark 8 = .ok (.invokevirtual 192, 3) := dk_182 0 192 (dk_at dksX1_mark_0 8 rfl rfl)
theorem dX1_mark_11 : decode cX1_mark 11 = .ok (.istore_n 3, 1) := dk_62 (dk_at dksX1_mark_0 11 rfl rfl)
theorem dX1_mark_12 : decode cX1_mark 12 = .ok (.iload_n 3, 1) := dk_29 (dk_at dksX1_mark_0 12 rfl rfl)
theorem dX1_mark_13 : decode cX1_mark 13 = .ok (.ifCond .ge 5, 3) := dk_156 0 5 (dk_at dksX1_mark_0 13 rfl rfl)
theorem dX1_mark_16 : decode cX1_mark 16 = .ok (.iload_n 3, 1) := dk_29 (dk_at dksX1_mark_0 16 rfl rfl)
theorem dX1_mark_17 : decode cX1_mark 17 = .ok (.ireturn, 1) := dk_172 (dk_at dksX1_mark_0 17 rfl rfl)
theorem dX1_mark_18 : decode cX1_mark 18 = .ok (.aload_n 0, 1) := dk_42 (dk_at dksX1_mark_0 18 rfl rfl)
theorem dX1_mark_19 : decode cX1_mark 19 = .ok (.getfield 35, 3) := dk_180 0 35 (dk_at dksX1_mark_0 19 rfl rfl)
theorem dX1_mark_22 : decode cX1_mark 22 = .ok (.iload_n 1, 1) := dk_27 (dk_at dksX1_mark_0 22 rfl rfl)
theorem dX1_mark_23 : decode cX1_mark 23 = .ok (.iaload, 1) := dk_46 (dk_at dksX1_mark_0 23 rfl rfl)
theorem dX1_mark_24 : decode cX1_mark 24 = .ok (.iload_n 2, 1) := dk_28 (dk_at dksX1_mark_1 0 rfl rfl)
theorem dX1_mark_25 : decode cX1_mark 25 = .ok (.if_icmp .eq 18, 3) := dk_159 0 18 (dk_at dksX1_mark_1 1 rfl rfl)
theorem dX1_mark_28 : decode cX1_mark 28 = .ok (.iload_n 2, 1) := dk_28 (dk_at dksX1_mark_1 4 rfl rfl)
theorem dX1_mark_29 : decode cX1_mark 29 = .ok (.iconst 2, 1) := dk_5 (dk_at dksX1_mark_1 5 rfl rfl)
theorem dX1_mark_30 : decode cX1_mark 30 = .ok (.if_icmp .ne 17, 3) := dk_160 0 17 (dk_at dksX1_mark_1 6 rfl rfl)
theorem dX1_mark_33 : decode cX1_mark 33 = .ok (.aload_n 0, 1) := dk_42 (dk_at dksX1_mark_1 9 rfl rfl)
theorem dX1_mark_34 : decode cX1_mark 34 = .ok (.getfield 35, 3) := dk_180 0 35 (dk_at dksX1_mark_1 10 rfl rfl)
theorem dX1_mark_37 : decode cX1_mark 37 = .ok (.iload_n 1, 1) := dk_27 (dk_at dksX1_mark_1 13 rfl rfl)
theorem dX1_mark_38 : decode cX1_mark 38 = .ok (.iaload, 1) := dk_46 (dk_at dksX1_mark_1 14 rfl rfl)
theorem dX1_mark_39 : decode cX1_mark 39 = .ok (.iconst 2, 1) := dk_5 (dk_at dksX1_mark_1 15 rfl rfl)
theorem dX1_mark_40 : decode cX1_mark 40 = .ok (.if_icmp .le 7, 3) := dk_164 0 7 (dk_at dksX1_mark_1 16 rfl rfl)
theorem dX1_mark_43 : decode cX1_mark 43 = .ok (.iconst 1, 1) := dk_4 (dk_at dksX1_mark_1 19 rfl rfl)
theorem dX1_mark_44 : decode cX1_mark 44 = .ok (.goto 4, 3) := dk_167 0 4 (dk_at dksX1_mark_1 20 rfl rfl)
theorem dX1_mark_47 : decode cX1_mark 47 = .ok (.iconst 0, 1) := dk_3 (dk_at dksX1_mark_1 23 rfl rfl)
theorem dX1_mark_48 : decode cX1_mark 48 = .ok (.istore 4, 2) := dk_54 4 (dk_at dksX1_mark_2 0 rfl rfl)
theorem dX1_mark_50 : decode cX1_mark 50 = .ok (.iload 4, 2) := dk_21 4 (dk_at dksX1_mark_2 2 rfl rfl)
theorem dX1_mark_52 : decode cX1_mark 52 = .ok (.ifCond .eq 12, 3) := dk_153 0 12 (dk_at dksX1_mark_2 4 rfl rfl)
theorem dX1_mark_55 : decode cX1_mark 55 = .ok (.aload_n 0, 1) := dk_42 (dk_at dksX1_mark_2 7 rfl rfl)
theorem dX1_mark_56 : decode cX1_mark 56 = .ok (.iload_n 1, 1) := dk_27 (dk_at dksX1_mark_2 8 rfl rfl)
theorem dX1_mark_57 : decode cX1_mark 57 = .ok (.iload_n 2, 1) := dk_28 (dk_at dksX1_mark_2 9 rfl rfl)
theorem dX1_mark_58 : decode cX1_mark 58 = .ok (.invokevirtual 196, 3) := dk_182 0 196 (dk_at dksX1_mark_2 10 rfl rfl)
theorem dX1_mark_61 : decode cX1_mark 61 = .ok (.goto 8, 3) := dk_167 0 8 (dk_at dksX1_mark_2 13 rfl rfl)
theorem dX1_mark_64 : decode cX1_mark 64 = .ok (.aload_n 0, 1) := dk_42 (dk_at dksX1_mark_2 16 rfl rfl)
theorem dX1_mark_65 : decode cX1_mark 65 = .ok (.iconst 3, 1) := dk_6 (dk_at dksX1_mark_2 17 rfl rfl)
theorem dX1_mark_66 : decode cX1_mark 66 = .ok (.invokevirtual 134, 3) := dk_182 0 134 (dk_at dksX1_mark_2 18 rfl rfl)
theorem dX1_mark_69 : decode cX1_mark 69 = .ok (.ireturn, 1) := dk_172 (dk_at dksX1_mark_2 21 rfl rfl)
abbrev cX1_markOf : ByteArray := prog_8_method_49_code
def yX1_markOf : MethodName := ⟨RX1, "markOf", "(II)I"⟩
def dkwX1_markOf_1 : List UInt8 := [180, 0, 41, 27, 46, 172]
abbrev dktX1_markOf_1 : List UInt8 := dkwX1_markOf_1 ++ []
def dkwX1_markOf_0 : List UInt8 := [28, 154, 0, 7, 3, 167, 0, 23, 28, 5, 160, 0, 12, 42, 180, 0, 38, 27, 46, 167, 0, 9, 42]
abbrev dktX1_markOf_0 : List UInt8 := dkwX1_markOf_0 ++ dktX1_markOf_1
theorem dksX1_markOf_0 : cX1_markOf.data.toList.drop 0 = dktX1_markOf_0 := by decide +kernel
theorem dksX1_markOf_1 : cX1_markOf.data.toList.drop 23 = dktX1_markOf_1 := dk_seg dksX1_markOf_0 23 rfl rfl
theorem dX1_markOf_0 : decode cX1_markOf 0 = .ok (.iload_n 2, 1) := dk_28 (dk_at dksX1_markOf_0 0 rfl rfl)
theorem dX1_markOf_1 : decode cX1_markOf 1 = .ok (.ifCond .ne 7, 3) := dk_154 0 7 (dk_at dksX1_markOf_0 1 rfl rfl)
theorem dX1_markOf_4 : decode cX1_markOf 4 = .ok (.iconst 0, 1) := dk_3 (dk_at dksX1_markOf_0 4 rfl rfl)
theorem dX1_markOf_5 : decode cX1_markOf 5 = .ok (.goto 23, 3) := dk_167 0 23 (dk_at dksX1_markOf_0 5 rfl rfl)
theorem dX1_markOf_8 : decode cX1_markOf 8 = .ok (.iload_n 2, 1) := dk_28 (dk_at dksX1_markOf_0 8 rfl rfl)
theorem dX1_markOf_9 : decode cX1_markOf 9 = .ok (.iconst 2, 1) := dk_5 (dk_at dksX1_markOf_0 9 rfl rfl)
theorem dX1_markOf_10 : decode cX1_markOf 10 = .ok (.if_icmp .ne 12, 3) := dk_160 0 12 (dk_at dksX1_markOf_0 10 rfl rfl)
theorem dX1_markOf_13 : decode cX1_markOf 13 = .ok (.aload_n 0, 1) := dk_42 (dk_at dksX1_markOf_0 13 rfl rfl)
theorem dX1_markOf_14 : decode cX1_markOf 14 = .ok (.getfield 38, 3) := dk_180 0 38 (dk_at dksX1_markOf_0 14 rfl rfl)
theorem dX1_markOf_17 : decode cX1_markOf 17 = .ok (.iload_n 1, 1) := dk_27 (dk_at dksX1_markOf_0 17 rfl rfl)
theorem dX1_markOf_18 : decode cX1_markOf 18 = .ok (.iaload, 1) := dk_46 (dk_at dksX1_markOf_0 18 rfl rfl)
theorem dX1_markOf_19 : decode cX1_markOf 19 = .ok (.goto 9, 3) := dk_167 0 9 (dk_at dksX1_markOf_0 19 rfl rfl)
theorem dX1_markOf_22 : decode cX1_markOf 22 = .ok (.aload_n 0, 1) := dk_42 (dk_at dksX1_markOf_0 22 rfl rfl)
theorem dX1_markOf_23 : decode cX1_markOf 23 = .ok (.getfield 41, 3) := dk_180 0 41 (dk_at dksX1_markOf_1 0 rfl rfl)
theorem dX1_markOf_26 : decode cX1_markOf 26 = .ok (.iload_n 1, 1) := dk_27 (dk_at dksX1_markOf_1 3 rfl rfl)
theorem dX1_markOf_27 : decode cX1_markOf 27 = .ok (.iaload, 1) := dk_46 (dk_at dksX1_markOf_1 4 rfl rfl)
theorem dX1_markOf_28 : decode cX1_markOf 28 = .ok (.ireturn, 1) := dk_172 (dk_at dksX1_markOf_1 5 rfl rfl)
abbrev cX1_ways : ByteArray := prog_8_method_52_code
def yX1_ways : MethodName := ⟨RX1, "ways", "(II)I"⟩
def dkwX1_ways_2 : List UInt8 := [182, 0, 202, 172]
abbrev dktX1_ways_2 : List UInt8 := dkwX1_ways_2 ++ []
def dkwX1_ways_1 : List UInt8 := [42, 180, 0, 29, 28, 46, 47, 55, 4, 42, 22, 4, 22, 4, 9, 148, 158, 0, 7, 4, 167, 0, 4, 3]
abbrev dktX1_ways_1 : List UInt8 := dkwX1_ways_1 ++ dktX1_ways_2
def dkwX1_ways_0 : List UInt8 := [42, 4, 27, 28, 182, 0, 188, 62, 29, 156, 0, 5, 29, 172, 42, 27, 28, 182, 0, 199, 42, 180, 0, 53]
abbrev dktX1_ways_0 : List UInt8 := dkwX1_ways_0 ++ dktX1_ways_1
theorem dksX1_ways_0 : cX1_ways.data.toList.drop 0 = dktX1_ways_0 := by decide +kernel
theorem dksX1_ways_1 : cX1_ways.data.toList.drop 24 = dktX1_ways_1 := dk_seg dksX1_ways_0 24 rfl rfl
theorem dksX1_ways_2 : cX1_ways.data.toList.drop 48 = dktX1_ways_2 := dk_seg dksX1_ways_1 24 rfl rfl
theorem dX1_ways_0 : decode cX1_ways 0 = .ok (.aload_n 0, 1) := dk_42 (dk_at dksX1_ways_0 0 rfl rfl)
theorem dX1_ways_1 : decode cX1_ways 1 = .ok (.iconst 1, 1) := dk_4 (dk_at dksX1_ways_0 1 rfl rfl)
theorem dX1_ways_2 : decode cX1_ways 2 = .ok (.iload_n 1, 1) := dk_27 (dk_at dksX1_ways_0 2 rfl rfl)
theorem dX1_ways_3 : decode cX1_ways 3 = .ok (.iload_n 2, 1) := dk_28 (dk_at dksX1_ways_0 3 rfl rfl)
theorem dX1_ways_4 : decode cX1_ways 4 = .ok (.invokevirtual 188, 3) := dk_182 0 188 (dk_at dksX1_ways_0 4 rfl rfl)
theorem dX1_ways_7 : decode cX1_ways 7 = .ok (.istore_n 3, 1) := dk_62 (dk_at dksX1_ways_0 7 rfl rfl)
theorem dX1_ways_8 : decode cX1_ways 8 = .ok (.iload_n 3, 1) := dk_29 (dk_at dksX1_ways_0 8 rfl rfl)
theorem dX1_ways_9 : decode cX1_ways 9 = .ok (.ifCond .ge 5, 3) := dk_156 0 5 (dk_at dksX1_ways_0 9 rfl rfl)
theorem dX1_ways_12 : decode cX1_ways 12 = .ok (.iload_n 3, 1) := dk_29 (dk_at dksX1_ways_0 12 rfl rfl)
theorem dX1_ways_13 : decode cX1_ways 13 = .ok (.ireturn, 1) := dk_172 (dk_at dksX1_ways_0 13 rfl rfl)
theorem dX1_ways_14 : decode cX1_ways 14 = .ok (.aload_n 0, 1) := dk_42 (dk_at dksX1_ways_0 14 rfl rfl)
theorem dX1_ways_15 : decode cX1_ways 15 = .ok (.iload_n 1, 1) := dk_27 (dk_at dksX1_ways_0 15 rfl rfl)
theorem dX1_ways_16 : decode cX1_ways 16 = .ok (.iload_n 2, 1) := dk_28 (dk_at dksX1_ways_0 16 rfl rfl)
theorem dX1_ways_17 : decode cX1_ways 17 = .ok (.invokevirtual 199, 3) := dk_182 0 199 (dk_at dksX1_ways_0 17 rfl rfl)
theorem dX1_ways_20 : decode cX1_ways 20 = .ok (.aload_n 0, 1) := dk_42 (dk_at dksX1_ways_0 20 rfl rfl)
theorem dX1_ways_21 : decode cX1_ways 21 = .ok (.getfield 53, 3) := dk_180 0 53 (dk_at dksX1_ways_0 21 rfl rfl)
theorem dX1_ways_24 : decode cX1_ways 24 = .ok (.aload_n 0, 1) := dk_42 (dk_at dksX1_ways_1 0 rfl rfl)
theorem dX1_ways_25 : decode cX1_ways 25 = .ok (.getfield 29, 3) := dk_180 0 29 (dk_at dksX1_ways_1 1 rfl rfl)
theorem dX1_ways_28 : decode cX1_ways 28 = .ok (.iload_n 2, 1) := dk_28 (dk_at dksX1_ways_1 4 rfl rfl)
theorem dX1_ways_29 : decode cX1_ways 29 = .ok (.iaload, 1) := dk_46 (dk_at dksX1_ways_1 5 rfl rfl)
theorem dX1_ways_30 : decode cX1_ways 30 = .ok (.laload, 1) := dk_47 (dk_at dksX1_ways_1 6 rfl rfl)
theorem dX1_ways_31 : decode cX1_ways 31 = .ok (.lstore 4, 2) := dk_55 4 (dk_at dksX1_ways_1 7 rfl rfl)
theorem dX1_ways_33 : decode cX1_ways 33 = .ok (.aload_n 0, 1) := dk_42 (dk_at dksX1_ways_1 9 rfl rfl)
theorem dX1_ways_34 : decode cX1_ways 34 = .ok (.lload 4, 2) := dk_22 4 (dk_at dksX1_ways_1 10 rfl rfl)
theorem dX1_ways_36 : decode cX1_ways 36 = .ok (.lload 4, 2) := dk_22 4 (dk_at dksX1_ways_1 12 rfl rfl)
theorem dX1_ways_38 : decode cX1_ways 38 = .ok (.lconst 0, 1) := dk_9 (dk_at dksX1_ways_1 14 rfl rfl)
theorem dX1_ways_39 : decode cX1_ways 39 = .ok (.lcmp, 1) := dk_148 (dk_at dksX1_ways_1 15 rfl rfl)
theorem dX1_ways_40 : decode cX1_ways 40 = .ok (.ifCond .le 7, 3) := dk_158 0 7 (dk_at dksX1_ways_1 16 rfl rfl)
theorem dX1_ways_43 : decode cX1_ways 43 = .ok (.iconst 1, 1) := dk_4 (dk_at dksX1_ways_1 19 rfl rfl)
theorem dX1_ways_44 : decode cX1_ways 44 = .ok (.goto 4, 3) := dk_167 0 4 (dk_at dksX1_ways_1 20 rfl rfl)
theorem dX1_ways_47 : decode cX1_ways 47 = .ok (.iconst 0, 1) := dk_3 (dk_at dksX1_ways_1 23 rfl rfl)
theorem dX1_ways_48 : decode cX1_ways 48 = .ok (.invokevirtual 202, 3) := dk_182 0 202 (dk_at dksX1_ways_2 0 rfl rfl)
theorem dX1_ways_51 : decode cX1_ways 51 = .ok (.ireturn, 1) := dk_172 (dk_at dksX1_ways_2 3 rfl rfl)
abbrev cX1_layWays : ByteArray := prog_8_method_53_code
def yX1_layWays : MethodName := ⟨RX1, "layWays", "(II)V"⟩
def dkwX1_layWays_4 : List UInt8 := [80, 132, 4, 255, 167, 255, 207, 132, 3, 1, 167, 255, 183, 177]
abbrev dktX1_layWays_4 : List UInt8 := dkwX1_layWays_4 ++ []
def dkwX1_layWays_3 : List UInt8 := [21, 4, 4, 100, 182, 0, 148, 160, 0, 15, 42, 180, 0, 53, 21, 4, 4, 100, 47, 167, 0, 4, 9, 97]
abbrev dktX1_layWays_3 : List UInt8 := dkwX1_layWays_3 ++ dktX1_layWays_4
def dkwX1_layWays_2 : List UInt8 := [54, 4, 21, 4, 158, 0, 50, 42, 180, 0, 53, 21, 4, 92, 47, 42, 27, 29, 182, 0, 148, 42, 28]
abbrev dktX1_layWays_2 : List UInt8 := dkwX1_layWays_2 ++ dktX1_layWays_3
def dkwX1_layWays_1 : List UInt8 := [132, 3, 1, 167, 255, 232, 3, 62, 29, 42, 180, 0, 29, 27, 46, 162, 0, 69, 42, 180, 0, 29, 28, 46]
abbrev dktX1_layWays_1 : List UInt8 := dkwX1_layWays_1 ++ dktX1_layWays_2
def dkwX1_layWays_0 : List UInt8 := [3, 62, 29, 16, 40, 163, 0, 24, 42, 180, 0, 53, 29, 29, 154, 0, 7, 10, 167, 0, 4, 9, 80]
abbrev dktX1_layWays_0 : List UInt8 := dkwX1_layWays_0 ++ dktX1_layWays_1
theorem dksX1_layWays_0 : cX1_layWays.data.toList.drop 0 = dktX1_layWays_0 := by decide +kernel
theorem dksX1_layWays_1 : cX1_layWays.data.toList.drop 23 = dktX1_layWays_1 := dk_seg dksX1_layWays_0 23 rfl rfl
theorem dksX1_layWays_2 : cX1_layWays.data.toList.drop 47 = dktX1_layWays_2 := dk_seg dksX1_layWays_1 24 rfl rfl
theorem dksX1_layWays_3 : cX1_layWays.data.toList.drop 70 = dktX1_layWays_3 := dk_seg dksX1_layWays_2 23 rfl rfl
theorem dksX1_layWays_4 : cX1_layWays.data.toList.drop 94 = dktX1_layWays_4 := dk_seg dksX1_layWays_3 24 rfl rfl
theorem dX1_layWays_0 : decode cX1_layWays 0 = .ok (.iconst 0, 1) := dk_3 (dk_at dksX1_layWays_0 0 rfl rfl)
theorem dX1_layWays_1 : decode cX1_layWays 1 = .ok (.istore_n 3, 1) := dk_62 (dk_at dksX1_layWays_0 1 rfl rfl)
theorem dX1_layWays_2 : decode cX1_layWays 2 = .ok (.iload_n 3, 1) := dk_29 (dk_at dksX1_layWays_0 2 rfl rfl)
theorem dX1_layWays_3 : decode cX1_layWays 3 = .ok (.bipush 40, 2) := dk_16 40 (dk_at dksX1_layWays_0 3 rfl rfl)
theorem dX1_layWays_5 : decode cX1_layWays 5 = .ok (.if_icmp .gt 24, 3) := dk_163 0 24 (dk_at dksX1_layWays_0 5 rfl rfl)
theorem dX1_layWays_8 : decode cX1_layWays 8 = .ok (.aload_n 0, 1) := dk_42 (dk_at dksX1_layWays_0 8 rfl rfl)
theorem dX1_layWays_9 : decode cX1_layWays 9 = .ok (.getfield 53, 3) := dk_180 0 53 (dk_at dksX1_layWays_0 9 rfl rfl)
theorem dX1_layWays_12 : decode cX1_layWays 12 = .ok (.iload_n 3, 1) := dk_29 (dk_at dksX1_layWays_0 12 rfl rfl)
theorem dX1_layWays_13 : decode cX1_layWays 13 = .ok (.iload_n 3, 1) := dk_29 (dk_at dksX1_layWays_0 13 rfl rfl)
theorem dX1_layWays_14 : decode cX1_layWays 14 = .ok (.ifCond .ne 7, 3) := dk_154 0 7 (dk_at dksX1_layWays_0 14 rfl rfl)
theorem dX1_layWays_17 : decode cX1_layWays 17 = .ok (.lconst 1, 1) := dk_10 (dk_at dksX1_layWays_0 17 rfl rfl)
theorem dX1_layWays_18 : decode cX1_layWays 18 = .ok (.goto 4, 3) := dk_167 0 4 (dk_at dksX1_layWays_0 18 rfl rfl)
theorem dX1_layWays_21 : decode cX1_layWays 21 = .ok (.lconst 0, 1) := dk_9 (dk_at dksX1_layWays_0 21 rfl rfl)
theorem dX1_layWays_22 : decode cX1_layWays 22 = .ok (.lastore, 1) := dk_80 (dk_at dksX1_layWays_0 22 rfl rfl)
theorem dX1_layWays_23 : decode cX1_layWays 23 = .ok (.iinc 3 1, 3) := dk_132 3 1 (dk_at dksX1_layWays_1 0 rfl rfl)
theorem dX1_layWays_26 : decode cX1_layWays 26 = .ok (.goto (-24), 3) := dk_167 255 232 (dk_at dksX1_layWays_1 3 rfl rfl)
theorem dX1_layWays_29 : decode cX1_layWays 29 = .ok (.iconst 0, 1) := dk_3 (dk_at dksX1_layWays_1 6 rfl rfl)
theorem dX1_layWays_30 : decode cX1_layWays 30 = .ok (.istore_n 3, 1) := dk_62 (dk_at dksX1_layWays_1 7 rfl rfl)
theorem dX1_layWays_31 : decode cX1_layWays 31 = .ok (.iload_n 3, 1) := dk_29 (dk_at dksX1_layWays_1 8 rfl rfl)
theorem dX1_layWays_32 : decode cX1_layWays 32 = .ok (.aload_n 0, 1) := dk_42 (dk_at dksX1_layWays_1 9 rfl rfl)
theorem dX1_layWays_33 : decode cX1_layWays 33 = .ok (.getfield 29, 3) := dk_180 0 29 (dk_at dksX1_layWays_1 10 rfl rfl)
theorem dX1_layWays_36 : decode cX1_layWays 36 = .ok (.iload_n 1, 1) := dk_27 (dk_at dksX1_layWays_1 13 rfl rfl)
theorem dX1_layWays_37 : decode cX1_layWays 37 = .ok (.iaload, 1) := dk_46 (dk_at dksX1_layWays_1 14 rfl rfl)
theorem dX1_layWays_38 : decode cX1_layWays 38 = .ok (.if_icmp .ge 69, 3) := dk_162 0 69 (dk_at dksX1_layWays_1 15 rfl rfl)
theorem dX1_layWays_41 : decode cX1_layWays 41 = .ok (.aload_n 0, 1) := dk_42 (dk_at dksX1_layWays_1 18 rfl rfl)
theorem dX1_layWays_42 : decode cX1_layWays 42 = .ok (.getfield 29, 3) := dk_180 0 29 (dk_at dksX1_layWays_1 19 rfl rfl)
theorem dX1_layWays_45 : decode cX1_layWays 45 = .ok (.iload_n 2, 1) := dk_28 (dk_at dksX1_layWays_1 22 rfl rfl)
theorem dX1_layWays_46 : decode cX1_layWays 46 = .ok (.iaload, 1) := dk_46 (dk_at dksX1_layWays_1 23 rfl rfl)
theorem dX1_layWays_47 : decode cX1_layWays 47 = .ok (.istore 4, 2) := dk_54 4 (dk_at dksX1_layWays_2 0 rfl rfl)
theorem dX1_layWays_49 : decode cX1_layWays 49 = .ok (.iload 4, 2) := dk_21 4 (dk_at dksX1_layWays_2 2 rfl rfl)
theorem dX1_layWays_51 : decode cX1_layWays 51 = .ok (.ifCond .le 50, 3) := dk_158 0 50 (dk_at dksX1_layWays_2 4 rfl rfl)
theorem dX1_layWays_54 : decode cX1_layWays 54 = .ok (.aload_n 0, 1) := dk_42 (dk_at dksX1_layWays_2 7 rfl rfl)
theorem dX1_layWays_55 : decode cX1_layWays 55 = .ok (.getfield 53, 3) := dk_180 0 53 (dk_at dksX1_layWays_2 8 rfl rfl)
theorem dX1_layWays_58 : decode cX1_layWays 58 = .ok (.iload 4, 2) := dk_21 4 (dk_at dksX1_layWays_2 11 rfl rfl)
theorem dX1_layWays_60 : decode cX1_layWays 60 = .ok (.dup2, 1) := dk_92 (dk_at dksX1_layWays_2 13 rfl rfl)
theorem dX1_layWays_61 : decode cX1_layWays 61 = .ok (.laload, 1) := dk_47 (dk_at dksX1_layWays_2 14 rfl rfl)
theorem dX1_layWays_62 : decode cX1_layWays 62 = .ok (.aload_n 0, 1) := dk_42 (dk_at dksX1_layWays_2 15 rfl rfl)
theorem dX1_layWays_63 : decode cX1_layWays 63 = .ok (.iload_n 1, 1) := dk_27 (dk_at dksX1_layWays_2 16 rfl rfl)
theorem dX1_layWays_64 : decode cX1_layWays 64 = .ok (.iload_n 3, 1) := dk_29 (dk_at dksX1_layWays_2 17 rfl rfl)
theorem dX1_layWays_65 : decode cX1_layWays 65 = .ok (.invokevirtual 148, 3) := dk_182 0 148 (dk_at dksX1_layWays_2 18 rfl rfl)
theorem dX1_layWays_68 : decode cX1_layWays 68 = .ok (.aload_n 0, 1) := dk_42 (dk_at dksX1_layWays_2 21 rfl rfl)
theorem dX1_layWays_69 : decode cX1_layWays 69 = .ok (.iload_n 2, 1) := dk_28 (dk_at dksX1_layWays_2 22 rfl rfl)
theorem dX1_layWays_70 : decode cX1_layWays 70 = .ok (.iload 4, 2) := dk_21 4 (dk_at dksX1_layWays_3 0 rfl rfl)
theorem dX1_layWays_72 : decode cX1_layWays 72 = .ok (.iconst 1, 1) := dk_4 (dk_at dksX1_layWays_3 2 rfl rfl)
theorem dX1_layWays_73 : decode cX1_layWays 73 = .ok (.isub, 1) := dk_100 (dk_at dksX1_layWays_3 3 rfl rfl)
theorem dX1_layWays_74 : decode cX1_layWays 74 = .ok (.invokevirtual 148, 3) := dk_182 0 148 (dk_at dksX1_layWays_3 4 rfl rfl)
theorem dX1_layWays_77 : decode cX1_layWays 77 = .ok (.if_icmp .ne 15, 3) := dk_160 0 15 (dk_at dksX1_layWays_3 7 rfl rfl)
theorem dX1_layWays_80 : decode cX1_layWays 80 = .ok (.aload_n 0, 1) := dk_42 (dk_at dksX1_layWays_3 10 rfl rfl)
theorem dX1_layWays_81 : decode cX1_layWays 81 = .ok (.getfield 53, 3) := dk_180 0 53 (dk_at dksX1_layWays_3 11 rfl rfl)
theorem dX1_layWays_84 : decode cX1_layWays 84 = .ok (.iload 4, 2) := dk_21 4 (dk_at dksX1_layWays_3 14 rfl rfl)
theorem dX1_layWays_86 : decode cX1_layWays 86 = .ok (.iconst 1, 1) := dk_4 (dk_at dksX1_layWays_3 16 rfl rfl)
theorem dX1_layWays_87 : decode cX1_layWays 87 = .ok (.isub, 1) := dk_100 (dk_at dksX1_layWays_3 17 rfl rfl)
theorem dX1_layWays_88 : decode cX1_layWays 88 = .ok (.laload, 1) := dk_47 (dk_at dksX1_layWays_3 18 rfl rfl)
theorem dX1_layWays_89 : decode cX1_layWays 89 = .ok (.goto 4, 3) := dk_167 0 4 (dk_at dksX1_layWays_3 19 rfl rfl)
theorem dX1_layWays_92 : decode cX1_layWays 92 = .ok (.lconst 0, 1) := dk_9 (dk_at dksX1_layWays_3 22 rfl rfl)
theorem dX1_layWays_93 : decode cX1_layWays 93 = .ok (.ladd, 1) := dk_97 (dk_at dksX1_layWays_3 23 rfl rfl)
theorem dX1_layWays_94 : decode cX1_layWays 94 = .ok (.lastore, 1) := dk_80 (dk_at dksX1_layWays_4 0 rfl rfl)
theorem dX1_layWays_95 : decode cX1_layWays 95 = .ok (.iinc 4 (-1), 3) := dk_132 4 255 (dk_at dksX1_layWays_4 1 rfl rfl)
theorem dX1_layWays_98 : decode cX1_layWays 98 = .ok (.goto (-49), 3) := dk_167 255 207 (dk_at dksX1_layWays_4 4 rfl rfl)
theorem dX1_layWays_101 : decode cX1_layWays 101 = .ok (.iinc 3 1, 3) := dk_132 3 1 (dk_at dksX1_layWays_4 7 rfl rfl)
theorem dX1_layWays_104 : decode cX1_layWays 104 = .ok (.goto (-73), 3) := dk_167 255 183 (dk_at dksX1_layWays_4 10 rfl rfl)
theorem dX1_layWays_107 : decode cX1_layWays 107 = .ok (.return_, 1) := dk_177 (dk_at dksX1_layWays_4 13 rfl rfl)
abbrev cX1_tellsMany : ByteArray := prog_8_method_8_code
def yX1_tellsMany : MethodName := ⟨RX1, "tellsMany", "(JI)I"⟩
def dkwX1_tellsMany_0 : List UInt8 := [42, 31, 181, 0, 124, 29, 172]
abbrev dktX1_tellsMany_0 : List UInt8 := dkwX1_tellsMany_0 ++ []
theorem dksX1_tellsMany_0 : cX1_tellsMany.data.toList.drop 0 = dktX1_tellsMany_0 := by decide +kernel
theorem dX1_tellsMany_0 : decode cX1_tellsMany 0 = .ok (.aload_n 0, 1) := dk_42 (dk_at dksX1_tellsMany_0 0 rfl rfl)
theorem dX1_tellsMany_1 : decode cX1_tellsMany 1 = .ok (.lload_n 1, 1) := dk_31 (dk_at dksX1_tellsMany_0 1 rfl rfl)
theorem dX1_tellsMany_2 : decode cX1_tellsMany 2 = .ok (.putfield 124, 3) := dk_181 0 124 (dk_at dksX1_tellsMany_0 2 rfl rfl)
theorem dX1_tellsMany_5 : decode cX1_tellsMany 5 = .ok (.iload_n 3, 1) := dk_29 (dk_at dksX1_tellsMany_0 5 rfl rfl)
theorem dX1_tellsMany_6 : decode cX1_tellsMany 6 = .ok (.ireturn, 1) := dk_172 (dk_at dksX1_tellsMany_0 6 rfl rfl)
abbrev cX1_way : ByteArray := prog_8_method_55_code
def yX1_way : MethodName := ⟨RX1, "way", "(IIIZ)I"⟩
def dkwX1_way_4 : List UInt8 := [180, 0, 151, 172]
abbrev dktX1_way_4 : List UInt8 := dkwX1_way_4 ++ []
def dkwX1_way_3 : List UInt8 := [46, 167, 0, 10, 42, 180, 0, 57, 21, 6, 46, 79, 132, 6, 1, 167, 255, 215, 42, 29, 182, 0, 214, 42]
abbrev dktX1_way_3 : List UInt8 := dkwX1_way_3 ++ dktX1_way_4
def dkwX1_way_2 : List UInt8 := [42, 180, 0, 151, 162, 0, 38, 42, 180, 0, 44, 21, 6, 21, 4, 153, 0, 13, 42, 180, 0, 60, 21, 6]
abbrev dktX1_way_2 : List UInt8 := dkwX1_way_2 ++ dktX1_way_3
def dkwX1_way_1 : List UInt8 := [182, 0, 210, 154, 0, 6, 16, 247, 172, 42, 42, 180, 0, 29, 28, 46, 181, 0, 151, 3, 54, 6, 21, 6]
abbrev dktX1_way_1 : List UInt8 := dkwX1_way_1 ++ dktX1_way_2
def dkwX1_way_0 : List UInt8 := [42, 29, 184, 0, 130, 27, 28, 182, 0, 188, 54, 5, 21, 5, 156, 0, 6, 21, 5, 172, 42, 27, 28]
abbrev dktX1_way_0 : List UInt8 := dkwX1_way_0 ++ dktX1_way_1
theorem dksX1_way_0 : cX1_way.data.toList.drop 0 = dktX1_way_0 := by decide +kernel
theorem dksX1_way_1 : cX1_way.data.toList.drop 23 = dktX1_way_1 := dk_seg dksX1_way_0 23 rfl rfl
theorem dksX1_way_2 : cX1_way.data.toList.drop 47 = dktX1_way_2 := dk_seg dksX1_way_1 24 rfl rfl
theorem dksX1_way_3 : cX1_way.data.toList.drop 71 = dktX1_way_3 := dk_seg dksX1_way_2 24 rfl rfl
theorem dksX1_way_4 : cX1_way.data.toList.drop 95 = dktX1_way_4 := dk_seg dksX1_way_3 24 rfl rfl
theorem dX1_way_0 : decode cX1_way 0 = .ok (.aload_n 0, 1) := dk_42 (dk_at dksX1_way_0 0 rfl rfl)
theorem dX1_way_1 : decode cX1_way 1 = .ok (.iload_n 3, 1) := dk_29 (dk_at dksX1_way_0 1 rfl rfl)
theorem dX1_way_2 : decode cX1_way 2 = .ok (.invokestatic 130, 3) := dk_184 0 130 (dk_at dksX1_way_0 2 rfl rfl)
theorem dX1_way_5 : decode cX1_way 5 = .ok (.iload_n 1, 1) := dk_27 (dk_at dksX1_way_0 5 rfl rfl)
theorem dX1_way_6 : decode cX1_way 6 = .ok (.iload_n 2, 1) := dk_28 (dk_at dksX1_way_0 6 rfl rfl)
theorem dX1_way_7 : decode cX1_way 7 = .ok (.invokevirtual 188, 3) := dk_182 0 188 (dk_at dksX1_way_0 7 rfl rfl)
theorem dX1_way_10 : decode cX1_way 10 = .ok (.istore 5, 2) := dk_54 5 (dk_at dksX1_way_0 10 rfl rfl)
theorem dX1_way_12 : decode cX1_way 12 = .ok (.iload 5, 2) := dk_21 5 (dk_at dksX1_way_0 12 rfl rfl)
theorem dX1_way_14 : decode cX1_way 14 = .ok (.ifCond .ge 6, 3) := dk_156 0 6 (dk_at dksX1_way_0 14 rfl rfl)
theorem dX1_way_17 : decode cX1_way 17 = .ok (.iload 5, 2) := dk_21 5 (dk_at dksX1_way_0 17 rfl rfl)
theorem dX1_way_19 : decode cX1_way 19 = .ok (.ireturn, 1) := dk_172 (dk_at dksX1_way_0 19 rfl rfl)
theorem dX1_way_20 : decode cX1_way 20 = .ok (.aload_n 0, 1) := dk_42 (dk_at dksX1_way_0 20 rfl rfl)
theorem dX1_way_21 : decode cX1_way 21 = .ok (.iload_n 1, 1) := dk_27 (dk_at dksX1_way_0 21 rfl rfl)
theorem dX1_way_22 : decode cX1_way 22 = .ok (.iload_n 2, 1) := dk_28 (dk_at dksX1_way_0 22 rfl rfl)
theorem dX1_way_23 : decode cX1_way 23 = .ok (.invokevirtual 210, 3) := dk_182 0 210 (dk_at dksX1_way_1 0 rfl rfl)
theorem dX1_way_26 : decode cX1_way 26 = .ok (.ifCond .ne 6, 3) := dk_154 0 6 (dk_at dksX1_way_1 3 rfl rfl)
theorem dX1_way_29 : decode cX1_way 29 = .ok (.bipush (-9), 2) := dk_16 247 (dk_at dksX1_way_1 6 rfl rfl)
theorem dX1_way_31 : decode cX1_way 31 = .ok (.ireturn, 1) := dk_172 (dk_at dksX1_way_1 8 rfl rfl)
theorem dX1_way_32 : decode cX1_way 32 = .ok (.aload_n 0, 1) := dk_42 (dk_at dksX1_way_1 9 rfl rfl)
theorem dX1_way_33 : decode cX1_way 33 = .ok (.aload_n 0, 1) := dk_42 (dk_at dksX1_way_1 10 rfl rfl)
theorem dX1_way_34 : decode cX1_way 34 = .ok (.getfield 29, 3) := dk_180 0 29 (dk_at dksX1_way_1 11 rfl rfl)
theorem dX1_way_37 : decode cX1_way 37 = .ok (.iload_n 2, 1) := dk_28 (dk_at dksX1_way_1 14 rfl rfl)
theorem dX1_way_38 : decode cX1_way 38 = .ok (.iaload, 1) := dk_46 (dk_at dksX1_way_1 15 rfl rfl)
theorem dX1_way_39 : decode cX1_way 39 = .ok (.putfield 151, 3) := dk_181 0 151 (dk_at dksX1_way_1 16 rfl rfl)
theorem dX1_way_42 : decode cX1_way 42 = .ok (.iconst 0, 1) := dk_3 (dk_at dksX1_way_1 19 rfl rfl)
theorem dX1_way_43 : decode cX1_way 43 = .ok (.istore 6, 2) := dk_54 6 (dk_at dksX1_way_1 20 rfl rfl)
theorem dX1_way_45 : decode cX1_way 45 = .ok (.iload 6, 2) := dk_21 6 (dk_at dksX1_way_1 22 rfl rfl)
theorem dX1_way_47 : decode cX1_way 47 = .ok (.aload_n 0, 1) := dk_42 (dk_at dksX1_way_2 0 rfl rfl)
theorem dX1_way_48 : decode cX1_way 48 = .ok (.getfield 151, 3) := dk_180 0 151 (dk_at dksX1_way_2 1 rfl rfl)
theorem dX1_way_51 : decode cX1_way 51 = .ok (.if_icmp .ge 38, 3) := dk_162 0 38 (dk_at dksX1_way_2 4 rfl rfl)
theorem dX1_way_54 : decode cX1_way 54 = .ok (.aload_n 0, 1) := dk_42 (dk_at dksX1_way_2 7 rfl rfl)
theorem dX1_way_55 : decode cX1_way 55 = .ok (.getfield 44, 3) := dk_180 0 44 (dk_at dksX1_way_2 8 rfl rfl)
theorem dX1_way_58 : decode cX1_way 58 = .ok (.iload 6, 2) := dk_21 6 (dk_at dksX1_way_2 11 rfl rfl)
theorem dX1_way_60 : decode cX1_way 60 = .ok (.iload 4, 2) := dk_21 4 (dk_at dksX1_way_2 13 rfl rfl)
theorem dX1_way_62 : decode cX1_way 62 = .ok (.ifCond .eq 13, 3) := dk_153 0 13 (dk_at dksX1_way_2 15 rfl rfl)
theorem dX1_way_65 : decode cX1_way 65 = .ok (.aload_n 0, 1) := dk_42 (dk_at dksX1_way_2 18 rfl rfl)
theorem dX1_way_66 : decode cX1_way 66 = .ok (.getfield 60, 3) := dk_180 0 60 (dk_at dksX1_way_2 19 rfl rfl)
theorem dX1_way_69 : decode cX1_way 69 = .ok (.iload 6, 2) := dk_21 6 (dk_at dksX1_way_2 22 rfl rfl)
theorem dX1_way_71 : decode cX1_way 71 = .ok (.iaload, 1) := dk_46 (dk_at dksX1_way_3 0 rfl rfl)
theorem dX1_way_72 : decode cX1_way 72 = .ok (.goto 10, 3) := dk_167 0 10 (dk_at dksX1_way_3 1 rfl rfl)
theorem dX1_way_75 : decode cX1_way 75 = .ok (.aload_n 0, 1) := dk_42 (dk_at dksX1_way_3 4 rfl rfl)
theorem dX1_way_76 : decode cX1_way 76 = .ok (.getfield 57, 3) := dk_180 0 57 (dk_at dksX1_way_3 5 rfl rfl)
theorem dX1_way_79 : decode cX1_way 79 = .ok (.iload 6, 2) := dk_21 6 (dk_at dksX1_way_3 8 rfl rfl)
theorem dX1_way_81 : decode cX1_way 81 = .ok (.iaload, 1) := dk_46 (dk_at dksX1_way_3 10 rfl rfl)
theorem dX1_way_82 : decode cX1_way 82 = .ok (.iastore, 1) := dk_79 (dk_at dksX1_way_3 11 rfl rfl)
theorem dX1_way_83 : decode cX1_way 83 = .ok (.iinc 6 1, 3) := dk_132 6 1 (dk_at dksX1_way_3 12 rfl rfl)
theorem dX1_way_86 : decode cX1_way 86 = .ok (.goto (-41), 3) := dk_167 255 215 (dk_at dksX1_way_3 15 rfl rfl)
theorem dX1_way_89 : decode cX1_way 89 = .ok (.aload_n 0, 1) := dk_42 (dk_at dksX1_way_3 18 rfl rfl)
theorem dX1_way_90 : decode cX1_way 90 = .ok (.iload_n 3, 1) := dk_29 (dk_at dksX1_way_3 19 rfl rfl)
theorem dX1_way_91 : decode cX1_way 91 = .ok (.invokevirtual 214, 3) := dk_182 0 214 (dk_at dksX1_way_3 20 rfl rfl)
theorem dX1_way_94 : decode cX1_way 94 = .ok (.aload_n 0, 1) := dk_42 (dk_at dksX1_way_3 23 rfl rfl)
theorem dX1_way_95 : decode cX1_way 95 = .ok (.getfield 151, 3) := dk_180 0 151 (dk_at dksX1_way_4 0 rfl rfl)
theorem dX1_way_98 : decode cX1_way 98 = .ok (.ireturn, 1) := dk_172 (dk_at dksX1_way_4 3 rfl rfl)
abbrev cX1_layPlaces : ByteArray := prog_8_method_54_code
def yX1_layPlaces : MethodName := ⟨RX1, "layPlaces", "(II)Z"⟩
def dkwX1_layPlaces_5 : List UInt8 := [132, 6, 255, 167, 255, 213, 4, 172]
abbrev dktX1_layPlaces_5 : List UInt8 := dkwX1_layPlaces_5 ++ []
def dkwX1_layPlaces_4 : List UInt8 := [182, 0, 148, 159, 0, 9, 132, 5, 255, 167, 255, 236, 42, 180, 0, 60, 21, 6, 21, 5, 79, 132, 5, 255]
abbrev dktX1_layPlaces_4 : List UInt8 := dkwX1_layPlaces_4 ++ dktX1_layPlaces_5
def dkwX1_layPlaces_3 : List UInt8 := [100, 54, 5, 29, 4, 100, 54, 6, 21, 6, 155, 0, 44, 42, 27, 21, 5, 182, 0, 148, 42, 28, 21, 6]
abbrev dktX1_layPlaces_3 : List UInt8 := dkwX1_layPlaces_3 ++ dktX1_layPlaces_4
def dkwX1_layPlaces_2 : List UInt8 := [21, 5, 21, 6, 79, 21, 6, 4, 96, 54, 4, 132, 5, 1, 167, 255, 207, 42, 180, 0, 29, 27, 46, 4]
abbrev dktX1_layPlaces_2 : List UInt8 := dkwX1_layPlaces_2 ++ dktX1_layPlaces_3
def dkwX1_layPlaces_1 : List UInt8 := [28, 21, 5, 182, 0, 148, 182, 0, 206, 54, 6, 21, 6, 16, 247, 160, 0, 5, 3, 172, 42, 180, 0, 57]
abbrev dktX1_layPlaces_1 : List UInt8 := dkwX1_layPlaces_1 ++ dktX1_layPlaces_2
def dkwX1_layPlaces_0 : List UInt8 := [42, 180, 0, 29, 28, 46, 62, 3, 54, 4, 3, 54, 5, 21, 5, 29, 162, 0, 49, 42, 27, 21, 4, 42]
abbrev dktX1_layPlaces_0 : List UInt8 := dkwX1_layPlaces_0 ++ dktX1_layPlaces_1
theorem dksX1_layPlaces_0 : cX1_layPlaces.data.toList.drop 0 = dktX1_layPlaces_0 := by decide +kernel
theorem dksX1_layPlaces_1 : cX1_layPlaces.data.toList.drop 24 = dktX1_layPlaces_1 := dk_seg dksX1_layPlaces_0 24 rfl rfl
theorem dksX1_layPlaces_2 : cX1_layPlaces.data.toList.drop 48 = dktX1_layPlaces_2 := dk_seg dksX1_layPlaces_1 24 rfl rfl
theorem dksX1_layPlaces_3 : cX1_layPlaces.data.toList.drop 72 = dktX1_layPlaces_3 := dk_seg dksX1_layPlaces_2 24 rfl rfl
theorem dksX1_layPlaces_4 : cX1_layPlaces.data.toList.drop 96 = dktX1_layPlaces_4 := dk_seg dksX1_layPlaces_3 24 rfl rfl
theorem dksX1_layPlaces_5 : cX1_layPlaces.data.toList.drop 120 = dktX1_layPlaces_5 := dk_seg dksX1_layPlaces_4 24 rfl rfl
theorem dX1_layPlaces_0 : decode cX1_layPlaces 0 = .ok (.aload_n 0, 1) := dk_42 (dk_at dksX1_layPlaces_0 0 rfl rfl)
theorem dX1_layPlaces_1 : decode cX1_layPlaces 1 = .ok (.getfield 29, 3) := dk_180 0 29 (dk_at dksX1_layPlaces_0 1 rfl rfl)
theorem dX1_layPlaces_4 : decode cX1_layPlaces 4 = .ok (.iload_n 2, 1) := dk_28 (dk_at dksX1_layPlaces_0 4 rfl rfl)
theorem dX1_layPlaces_5 : decode cX1_layPlaces 5 = .ok (.iaload, 1) := dk_46 (dk_at dksX1_layPlaces_0 5 rfl rfl)
theorem dX1_layPlaces_6 : decode cX1_layPlaces 6 = .ok (.istore_n 3, 1) := dk_62 (dk_at dksX1_layPlaces_0 6 rfl rfl)
theorem dX1_layPlaces_7 : decode cX1_layPlaces 7 = .ok (.iconst 0, 1) := dk_3 (dk_at dksX1_layPlaces_0 7 rfl rfl)
theorem dX1_layPlaces_8 : decode cX1_layPlaces 8 = .ok (.istore 4, 2) := dk_54 4 (dk_at dksX1_layPlaces_0 8 rfl rfl)
theorem dX1_layPlaces_10 : decode cX1_layPlaces 10 = .ok (.iconst 0, 1) := dk_3 (dk_at dksX1_layPlaces_0 10 rfl rfl)
theorem dX1_layPlaces_11 : decode cX1_layPlaces 11 = .ok (.istore 5, 2) := dk_54 5 (dk_at dksX1_layPlaces_0 11 rfl rfl)
theorem dX1_layPlaces_13 : decode cX1_layPlaces 13 = .ok (.iload 5, 2) := dk_21 5 (dk_at dksX1_layPlaces_0 13 rfl rfl)
theorem dX1_layPlaces_15 : decode cX1_layPlaces 15 = .ok (.iload_n 3, 1) := dk_29 (dk_at dksX1_layPlaces_0 15 rfl rfl)
theorem dX1_layPlaces_16 : decode cX1_layPlaces 16 = .ok (.if_icmp .ge 49, 3) := dk_162 0 49 (dk_at dksX1_layPlaces_0 16 rfl rfl)
theorem dX1_layPlaces_19 : decode cX1_layPlaces 19 = .ok (.aload_n 0, 1) := dk_42 (dk_at dksX1_layPlaces_0 19 rfl rfl)
theorem dX1_layPlaces_20 : decode cX1_layPlaces 20 = .ok (.iload_n 1, 1) := dk_27 (dk_at dksX1_layPlaces_0 20 rfl rfl)
theorem dX1_layPlaces_21 : decode cX1_layPlaces 21 = .ok (.iload 4, 2) := dk_21 4 (dk_at dksX1_layPlaces_0 21 rfl rfl)
theorem dX1_layPlaces_23 : decode cX1_layPlaces 23 = .ok (.aload_n 0, 1) := dk_42 (dk_at dksX1_layPlaces_0 23 rfl rfl)
theorem dX1_layPlaces_24 : decode cX1_layPlaces 24 = .ok (.iload_n 2, 1) := dk_28 (dk_at dksX1_layPlaces_1 0 rfl rfl)
theorem dX1_layPlaces_25 : decode cX1_layPlaces 25 = .ok (.iload 5, 2) := dk_21 5 (dk_at dksX1_layPlaces_1 1 rfl rfl)
theorem dX1_layPlaces_27 : decode cX1_layPlaces 27 = .ok (.invokevirtual 148, 3) := dk_182 0 148 (dk_at dksX1_layPlaces_1 3 rfl rfl)
theorem dX1_layPlaces_30 : decode cX1_layPlaces 30 = .ok (.invokevirtual 206, 3) := dk_182 0 206 (dk_at dksX1_layPlaces_1 6 rfl rfl)
theorem dX1_layPlaces_33 : decode cX1_layPlaces 33 = .ok (.istore 6, 2) := dk_54 6 (dk_at dksX1_layPlaces_1 9 rfl rfl)
theorem dX1_layPlaces_35 : decode cX1_layPlaces 35 = .ok (.iload 6, 2) := dk_21 6 (dk_at dksX1_layPlaces_1 11 rfl rfl)
theorem dX1_layPlaces_37 : decode cX1_layPlaces 37 = .ok (.bipush (-9), 2) := dk_16 247 (dk_at dksX1_layPlaces_1 13 rfl rfl)
theorem dX1_layPlaces_39 : decode cX1_layPlaces 39 = .ok (.if_icmp .ne 5, 3) := dk_160 0 5 (dk_at dksX1_layPlaces_1 15 rfl rfl)
theorem dX1_layPlaces_42 : decode cX1_layPlaces 42 = .ok (.iconst 0, 1) := dk_3 (dk_at dksX1_layPlaces_1 18 rfl rfl)
theorem dX1_layPlaces_43 : decode cX1_layPlaces 43 = .ok (.ireturn, 1) := dk_172 (dk_at dksX1_layPlaces_1 19 rfl rfl)
theorem dX1_layPlaces_44 : decode cX1_layPlaces 44 = .ok (.aload_n 0, 1) := dk_42 (dk_at dksX1_layPlaces_1 20 rfl rfl)
theorem dX1_layPlaces_45 : decode cX1_layPlaces 45 = .ok (.getfield 57, 3) := dk_180 0 57 (dk_at dksX1_layPlaces_1 21 rfl rfl)
theorem dX1_layPlaces_48 : decode cX1_layPlaces 48 = .ok (.iload 5, 2) := dk_21 5 (dk_at dksX1_layPlaces_2 0 rfl rfl)
theorem dX1_layPlaces_50 : decode cX1_layPlaces 50 = .ok (.iload 6, 2) := dk_21 6 (dk_at dksX1_layPlaces_2 2 rfl rfl)
theorem dX1_layPlaces_52 : decode cX1_layPlaces 52 = .ok (.iastore, 1) := dk_79 (dk_at dksX1_layPlaces_2 4 rfl rfl)
theorem dX1_layPlaces_53 : decode cX1_layPlaces 53 = .ok (.iload 6, 2) := dk_21 6 (dk_at dksX1_layPlaces_2 5 rfl rfl)
theorem dX1_layPlaces_55 : decode cX1_layPlaces 55 = .ok (.iconst 1, 1) := dk_4 (dk_at dksX1_layPlaces_2 7 rfl rfl)
theorem dX1_layPlaces_56 : decode cX1_layPlaces 56 = .ok (.iadd, 1) := dk_96 (dk_at dksX1_layPlaces_2 8 rfl rfl)
theorem dX1_layPlaces_57 : decode cX1_layPlaces 57 = .ok (.istore 4, 2) := dk_54 4 (dk_at dksX1_layPlaces_2 9 rfl rfl)
theorem dX1_layPlaces_59 : decode cX1_layPlaces 59 = .ok (.iinc 5 1, 3) := dk_132 5 1 (dk_at dksX1_layPlaces_2 11 rfl rfl)
theorem dX1_layPlaces_62 : decode cX1_layPlaces 62 = .ok (.goto (-49), 3) := dk_167 255 207 (dk_at dksX1_layPlaces_2 14 rfl rfl)
theorem dX1_layPlaces_65 : decode cX1_layPlaces 65 = .ok (.aload_n 0, 1) := dk_42 (dk_at dksX1_layPlaces_2 17 rfl rfl)
theorem dX1_layPlaces_66 : decode cX1_layPlaces 66 = .ok (.getfield 29, 3) := dk_180 0 29 (dk_at dksX1_layPlaces_2 18 rfl rfl)
theorem dX1_layPlaces_69 : decode cX1_layPlaces 69 = .ok (.iload_n 1, 1) := dk_27 (dk_at dksX1_layPlaces_2 21 rfl rfl)
theorem dX1_layPlaces_70 : decode cX1_layPlaces 70 = .ok (.iaload, 1) := dk_46 (dk_at dksX1_layPlaces_2 22 rfl rfl)
theorem dX1_layPlaces_71 : decode cX1_layPlaces 71 = .ok (.iconst 1, 1) := dk_4 (dk_at dksX1_layPlaces_2 23 rfl rfl)
theorem dX1_layPlaces_72 : decode cX1_layPlaces 72 = .ok (.isub, 1) := dk_100 (dk_at dksX1_layPlaces_3 0 rfl rfl)
theorem dX1_layPlaces_73 : decode cX1_layPlaces 73 = .ok (.istore 5, 2) := dk_54 5 (dk_at dksX1_layPlaces_3 1 rfl rfl)
theorem dX1_layPlaces_75 : decode cX1_layPlaces 75 = .ok (.iload_n 3, 1) := dk_29 (dk_at dksX1_layPlaces_3 3 rfl rfl)
theorem dX1_layPlaces_76 : decode cX1_layPlaces 76 = .ok (.iconst 1, 1) := dk_4 (dk_at dksX1_layPlaces_3 4 rfl rfl)
theorem dX1_layPlaces_77 : decode cX1_layPlaces 77 = .ok (.isub, 1) := dk_100 (dk_at dksX1_layPlaces_3 5 rfl rfl)
theorem dX1_layPlaces_78 : decode cX1_layPlaces 78 = .ok (.istore 6, 2) := dk_54 6 (dk_at dksX1_layPlaces_3 6 rfl rfl)
theorem dX1_layPlaces_80 : decode cX1_layPlaces 80 = .ok (.iload 6, 2) := dk_21 6 (dk_at dksX1_layPlaces_3 8 rfl rfl)
theorem dX1_layPlaces_82 : decode cX1_layPlaces 82 = .ok (.ifCond .lt 44, 3) := dk_155 0 44 (dk_at dksX1_layPlaces_3 10 rfl rfl)
theorem dX1_layPlaces_85 : decode cX1_layPlaces 85 = .ok (.aload_n 0, 1) := dk_42 (dk_at dksX1_layPlaces_3 13 rfl rfl)
theorem dX1_layPlaces_86 : decode cX1_layPlaces 86 = .ok (.iload_n 1, 1) := dk_27 (dk_at dksX1_layPlaces_3 14 rfl rfl)
theorem dX1_layPlaces_87 : decode cX1_layPlaces 87 = .ok (.iload 5, 2) := dk_21 5 (dk_at dksX1_layPlaces_3 15 rfl rfl)
theorem dX1_layPlaces_89 : decode cX1_layPlaces 89 = .ok (.invokevirtual 148, 3) := dk_182 0 148 (dk_at dksX1_layPlaces_3 17 rfl rfl)
theorem dX1_layPlaces_92 : decode cX1_layPlaces 92 = .ok (.aload_n 0, 1) := dk_42 (dk_at dksX1_layPlaces_3 20 rfl rfl)
theorem dX1_layPlaces_93 : decode cX1_layPlaces 93 = .ok (.iload_n 2, 1) := dk_28 (dk_at dksX1_layPlaces_3 21 rfl rfl)
theorem dX1_layPlaces_94 : decode cX1_layPlaces 94 = .ok (.iload 6, 2) := dk_21 6 (dk_at dksX1_layPlaces_3 22 rfl rfl)
theorem dX1_layPlaces_96 : decode cX1_layPlaces 96 = .ok (.invokevirtual 148, 3) := dk_182 0 148 (dk_at dksX1_layPlaces_4 0 rfl rfl)
theorem dX1_layPlaces_99 : decode cX1_layPlaces 99 = .ok (.if_icmp .eq 9, 3) := dk_159 0 9 (dk_at dksX1_layPlaces_4 3 rfl rfl)
theorem dX1_layPlaces_102 : decode cX1_layPlaces 102 = .ok (.iinc 5 (-1), 3) := dk_132 5 255 (dk_at dksX1_layPlaces_4 6 rfl rfl)
theorem dX1_layPlaces_105 : decode cX1_layPlaces 105 = .ok (.goto (-20), 3) := dk_167 255 236 (dk_at dksX1_layPlaces_4 9 rfl rfl)
theorem dX1_layPlaces_108 : decode cX1_layPlaces 108 = .ok (.aload_n 0, 1) := dk_42 (dk_at dksX1_layPlaces_4 12 rfl rfl)
theorem dX1_layPlaces_109 : decode cX1_layPlaces 109 = .ok (.getfield 60, 3) := dk_180 0 60 (dk_at dksX1_layPlaces_4 13 rfl rfl)
theorem dX1_layPlaces_112 : decode cX1_layPlaces 112 = .ok (.iload 6, 2) := dk_21 6 (dk_at dksX1_layPlaces_4 16 rfl rfl)
theorem dX1_layPlaces_114 : decode cX1_layPlaces 114 = .ok (.iload 5, 2) := dk_21 5 (dk_at dksX1_layPlaces_4 18 rfl rfl)
theorem dX1_layPlaces_116 : decode cX1_layPlaces 116 = .ok (.iastore, 1) := dk_79 (dk_at dksX1_layPlaces_4 20 rfl rfl)
theorem dX1_layPlaces_117 : decode cX1_layPlaces 117 = .ok (.iinc 5 (-1), 3) := dk_132 5 255 (dk_at dksX1_layPlaces_4 21 rfl rfl)
theorem dX1_layPlaces_120 : decode cX1_layPlaces 120 = .ok (.iinc 6 (-1), 3) := dk_132 6 255 (dk_at dksX1_layPlaces_5 0 rfl rfl)
theorem dX1_layPlaces_123 : decode cX1_layPlaces 123 = .ok (.goto (-43), 3) := dk_167 255 213 (dk_at dksX1_layPlaces_5 3 rfl rfl)
theorem dX1_layPlaces_126 : decode cX1_layPlaces 126 = .ok (.iconst 1, 1) := dk_4 (dk_at dksX1_layPlaces_5 6 rfl rfl)
theorem dX1_layPlaces_127 : decode cX1_layPlaces 127 = .ok (.ireturn, 1) := dk_172 (dk_at dksX1_layPlaces_5 7 rfl rfl)
abbrev cX1_next : ByteArray := prog_8_method_51_code
def yX1_next : MethodName := ⟨RX1, "next", "(III)I"⟩
def dkwX1_next_1 : List UInt8 := [160, 0, 6, 21, 4, 172, 132, 4, 1, 167, 255, 228, 16, 247, 172]
abbrev dktX1_next_1 : List UInt8 := dkwX1_next_1 ++ []
def dkwX1_next_0 : List UInt8 := [28, 54, 4, 21, 4, 42, 180, 0, 29, 27, 46, 162, 0, 23, 42, 27, 21, 4, 182, 0, 148, 29]
abbrev dktX1_next_0 : List UInt8 := dkwX1_next_0 ++ dktX1_next_1
theorem dksX1_next_0 : cX1_next.data.toList.drop 0 = dktX1_next_0 := by decide +kernel
theorem dksX1_next_1 : cX1_next.data.toList.drop 22 = dktX1_next_1 := dk_seg dksX1_next_0 22 rfl rfl
theorem dX1_next_0 : decode cX1_next 0 = .ok (.iload_n 2, 1) := dk_28 (dk_at dksX1_next_0 0 rfl rfl)
theorem dX1_next_1 : decode cX1_next 1 = .ok (.istore 4, 2) := dk_54 4 (dk_at dksX1_next_0 1 rfl rfl)
theorem dX1_next_3 : decode cX1_next 3 = .ok (.iload 4, 2) := dk_21 4 (dk_at dksX1_next_0 3 rfl rfl)
theorem dX1_next_5 : decode cX1_next 5 = .ok (.aload_n 0, 1) := dk_42 (dk_at dksX1_next_0 5 rfl rfl)
theorem dX1_next_6 : decode cX1_next 6 = .ok (.getfield 29, 3) := dk_180 0 29 (dk_at dksX1_next_0 6 rfl rfl)
theorem dX1_next_9 : decode cX1_next 9 = .ok (.iload_n 1, 1) := dk_27 (dk_at dksX1_next_0 9 rfl rfl)
theorem dX1_next_10 : decode cX1_next 10 = .ok (.iaload, 1) := dk_46 (dk_at dksX1_next_0 10 rfl rfl)
theorem dX1_next_11 : decode cX1_next 11 = .ok (.if_icmp .ge 23, 3) := dk_162 0 23 (dk_at dksX1_next_0 11 rfl rfl)
theorem dX1_next_14 : decode cX1_next 14 = .ok (.aload_n 0, 1) := dk_42 (dk_at dksX1_next_0 14 rfl rfl)
theorem dX1_next_15 : decode cX1_next 15 = .ok (.iload_n 1, 1) := dk_27 (dk_at dksX1_next_0 15 rfl rfl)
theorem dX1_next_16 : decode cX1_next 16 = .ok (.iload 4, 2) := dk_21 4 (dk_at dksX1_next_0 16 rfl rfl)
theorem dX1_next_18 : decode cX1_next 18 = .ok (.invokevirtual 148, 3) := dk_182 0 148 (dk_at dksX1_next_0 18 rfl rfl)
theorem dX1_next_21 : decode cX1_next 21 = .ok (.iload_n 3, 1) := dk_29 (dk_at dksX1_next_0 21 rfl rfl)
theorem dX1_next_22 : decode cX1_next 22 = .ok (.if_icmp .ne 6, 3) := dk_160 0 6 (dk_at dksX1_next_1 0 rfl rfl)
theorem dX1_next_25 : decode cX1_next 25 = .ok (.iload 4, 2) := dk_21 4 (dk_at dksX1_next_1 3 rfl rfl)
theorem dX1_next_27 : decode cX1_next 27 = .ok (.ireturn, 1) := dk_172 (dk_at dksX1_next_1 5 rfl rfl)
theorem dX1_next_28 : decode cX1_next 28 = .ok (.iinc 4 1, 3) := dk_132 4 1 (dk_at dksX1_next_1 6 rfl rfl)
theorem dX1_next_31 : decode cX1_next 31 = .ok (.goto (-28), 3) := dk_167 255 228 (dk_at dksX1_next_1 9 rfl rfl)
theorem dX1_next_34 : decode cX1_next 34 = .ok (.bipush (-9), 2) := dk_16 247 (dk_at dksX1_next_1 12 rfl rfl)
theorem dX1_next_36 : decode cX1_next 36 = .ok (.ireturn, 1) := dk_172 (dk_at dksX1_next_1 14 rfl rfl)
abbrev cX1_comesToRow : ByteArray := prog_8_method_32_code
def yX1_comesToRow : MethodName := ⟨RX1, "comesToRow", "(I)V"⟩
def dkwX1_comesToRow_2 : List UInt8 := [132, 2, 1, 167, 255, 218, 177]
abbrev dktX1_comesToRow_2 : List UInt8 := dkwX1_comesToRow_2 ++ []
def dkwX1_comesToRow_1 : List UInt8 := [27, 104, 28, 96, 28, 42, 180, 0, 151, 162, 0, 12, 42, 180, 0, 44, 28, 46, 167, 0, 4, 3, 79]
abbrev dktX1_comesToRow_1 : List UInt8 := dkwX1_comesToRow_1 ++ dktX1_comesToRow_2
def dkwX1_comesToRow_0 : List UInt8 := [42, 180, 0, 13, 27, 42, 180, 0, 151, 79, 3, 61, 28, 16, 40, 162, 0, 38, 42, 180, 0, 16, 16, 40]
abbrev dktX1_comesToRow_0 : List UInt8 := dkwX1_comesToRow_0 ++ dktX1_comesToRow_1
theorem dksX1_comesToRow_0 : cX1_comesToRow.data.toList.drop 0 = dktX1_comesToRow_0 := by decide +kernel
theorem dksX1_comesToRow_1 : cX1_comesToRow.data.toList.drop 24 = dktX1_comesToRow_1 := dk_seg dksX1_comesToRow_0 24 rfl rfl
theorem dksX1_comesToRow_2 : cX1_comesToRow.data.toList.drop 47 = dktX1_comesToRow_2 := dk_seg dksX1_comesToRow_1 23 rfl rfl
theorem dX1_comesToRow_0 : decode cX1_comesToRow 0 = .ok (.aload_n 0, 1) := dk_42 (dk_at dksX1_comesToRow_0 0 rfl rfl)
theorem dX1_comesToRow_1 : decode cX1_comesToRow 1 = .ok (.getfield 13, 3) := dk_180 0 13 (dk_at dksX1_comesToRow_0 1 rfl rfl)
theorem dX1_comesToRow_4 : decode cX1_comesToRow 4 = .ok (.iload_n 1, 1) := dk_27 (dk_at dksX1_comesToRow_0 4 rfl rfl)
theorem dX1_comesToRow_5 : decode cX1_comesToRow 5 = .ok (.aload_n 0, 1) := dk_42 (dk_at dksX1_comesToRow_0 5 rfl rfl)
theorem dX1_comesToRow_6 : decode cX1_comesToRow 6 = .ok (.getfield 151, 3) := dk_180 0 151 (dk_at dksX1_comesToRow_0 6 rfl rfl)
theorem dX1_comesToRow_9 : decode cX1_comesToRow 9 = .ok (.iastore, 1) := dk_79 (dk_at dksX1_comesToRow_0 9 rfl rfl)
theorem dX1_comesToRow_10 : decode cX1_comesToRow 10 = .ok (.iconst 0, 1) := dk_3 (dk_at dksX1_comesToRow_0 10 rfl rfl)
theorem dX1_comesToRow_11 : decode cX1_comesToRow 11 = .ok (.istore_n 2, 1) := dk_61 (dk_at dksX1_comesToRow_0 11 rfl rfl)
theorem dX1_comesToRow_12 : decode cX1_comesToRow 12 = .ok (.iload_n 2, 1) := dk_28 (dk_at dksX1_comesToRow_0 12 rfl rfl)
theorem dX1_comesToRow_13 : decode cX1_comesToRow 13 = .ok (.bipush 40, 2) := dk_16 40 (dk_at dksX1_comesToRow_0 13 rfl rfl)
theorem dX1_comesToRow_15 : decode cX1_comesToRow 15 = .ok (.if_icmp .ge 38, 3) := dk_162 0 38 (dk_at dksX1_comesToRow_0 15 rfl rfl)
theorem dX1_comesToRow_18 : decode cX1_comesToRow 18 = .ok (.aload_n 0, 1) := dk_42 (dk_at dksX1_comesToRow_0 18 rfl rfl)
theorem dX1_comesToRow_19 : decode cX1_comesToRow 19 = .ok (.getfield 16, 3) := dk_180 0 16 (dk_at dksX1_comesToRow_0 19 rfl rfl)
theorem dX1_comesToRow_22 : decode cX1_comesToRow 22 = .ok (.bipush 40, 2) := dk_16 40 (dk_at dksX1_comesToRow_0 22 rfl rfl)
theorem dX1_comesToRow_24 : decode cX1_comesToRow 24 = .ok (.iload_n 1, 1) := dk_27 (dk_at dksX1_comesToRow_1 0 rfl rfl)
theorem dX1_comesToRow_25 : decode cX1_comesToRow 25 = .ok (.imul, 1) := dk_104 (dk_at dksX1_comesToRow_1 1 rfl rfl)
theorem dX1_comesToRow_26 : decode cX1_comesToRow 26 = .ok (.iload_n 2, 1) := dk_28 (dk_at dksX1_comesToRow_1 2 rfl rfl)
theorem dX1_comesToRow_27 : decode cX1_comesToRow 27 = .ok (.iadd, 1) := dk_96 (dk_at dksX1_comesToRow_1 3 rfl rfl)
theorem dX1_comesToRow_28 : decode cX1_comesToRow 28 = .ok (.iload_n 2, 1) := dk_28 (dk_at dksX1_comesToRow_1 4 rfl rfl)
theorem dX1_comesToRow_29 : decode cX1_comesToRow 29 = .ok (.aload_n 0, 1) := dk_42 (dk_at dksX1_comesToRow_1 5 rfl rfl)
theorem dX1_comesToRow_30 : decode cX1_comesToRow 30 = .ok (.getfield 151, 3) := dk_180 0 151 (dk_at dksX1_comesToRow_1 6 rfl rfl)
theorem dX1_comesToRow_33 : decode cX1_comesToRow 33 = .ok (.if_icmp .ge 12, 3) := dk_162 0 12 (dk_at dksX1_comesToRow_1 9 rfl rfl)
theorem dX1_comesToRow_36 : decode cX1_comesToRow 36 = .ok (.aload_n 0, 1) := dk_42 (dk_at dksX1_comesToRow_1 12 rfl rfl)
theorem dX1_comesToRow_37 : decode cX1_comesToRow 37 = .ok (.getfield 44, 3) := dk_180 0 44 (dk_at dksX1_comesToRow_1 13 rfl rfl)
theorem dX1_comesToRow_40 : decode cX1_comesToRow 40 = .ok (.iload_n 2, 1) := dk_28 (dk_at dksX1_comesToRow_1 16 rfl rfl)
theorem dX1_comesToRow_41 : decode cX1_comesToRow 41 = .ok (.iaload, 1) := dk_46 (dk_at dksX1_comesToRow_1 17 rfl rfl)
theorem dX1_comesToRow_42 : decode cX1_comesToRow 42 = .ok (.goto 4, 3) := dk_167 0 4 (dk_at dksX1_comesToRow_1 18 rfl rfl)
theorem dX1_comesToRow_45 : decode cX1_comesToRow 45 = .ok (.iconst 0, 1) := dk_3 (dk_at dksX1_comesToRow_1 21 rfl rfl)
theorem dX1_comesToRow_46 : decode cX1_comesToRow 46 = .ok (.iastore, 1) := dk_79 (dk_at dksX1_comesToRow_1 22 rfl rfl)
theorem dX1_comesToRow_47 : decode cX1_comesToRow 47 = .ok (.iinc 2 1, 3) := dk_132 2 1 (dk_at dksX1_comesToRow_2 0 rfl rfl)
theorem dX1_comesToRow_50 : decode cX1_comesToRow 50 = .ok (.goto (-38), 3) := dk_167 255 218 (dk_at dksX1_comesToRow_2 3 rfl rfl)
theorem dX1_comesToRow_53 : decode cX1_comesToRow 53 = .ok (.return_, 1) := dk_177 (dk_at dksX1_comesToRow_2 6 rfl rfl)
abbrev cX1_places : ByteArray := prog_8_method_56_code
def yX1_places : MethodName := ⟨RX1, "places", "(IIZ)I"⟩
def dkwX1_places_9 : List UInt8 := [182, 0, 202, 172]
abbrev dktX1_places_9 : List UInt8 := dkwX1_places_9 ++ []
def dkwX1_places_8 : List UInt8 := [21, 9, 153, 0, 7, 4, 167, 0, 4, 3, 96, 54, 7, 132, 8, 1, 167, 255, 92, 42, 22, 5, 21, 7]
abbrev dktX1_places_8 : List UInt8 := dkwX1_places_8 ++ dktX1_places_9
def dkwX1_places_7 : List UInt8 := [167, 255, 148, 22, 5, 21, 9, 153, 0, 10, 10, 21, 8, 121, 167, 0, 4, 9, 129, 55, 5, 21, 7]
abbrev dktX1_places_7 : List UInt8 := dkwX1_places_7 ++ dktX1_places_8
def dkwX1_places_6 : List UInt8 := [21, 10, 46, 160, 0, 15, 167, 0, 8, 21, 11, 153, 0, 7, 4, 167, 0, 4, 3, 54, 9, 132, 10, 1]
abbrev dktX1_places_6 : List UInt8 := dkwX1_places_6 ++ dktX1_places_7
def dkwX1_places_5 : List UInt8 := [154, 0, 37, 29, 153, 0, 28, 21, 11, 153, 0, 32, 42, 180, 0, 57, 21, 10, 46, 42, 180, 0, 60]
abbrev dktX1_places_5 : List UInt8 := dkwX1_places_5 ++ dktX1_places_6
def dkwX1_places_4 : List UInt8 := [161, 0, 19, 21, 8, 42, 180, 0, 60, 21, 10, 46, 163, 0, 7, 4, 167, 0, 4, 3, 54, 11, 21, 9]
abbrev dktX1_places_4 : List UInt8 := dkwX1_places_4 ++ dktX1_places_5
def dkwX1_places_3 : List UInt8 := [182, 0, 148, 42, 28, 21, 10, 182, 0, 148, 160, 0, 31, 21, 8, 42, 180, 0, 57, 21, 10, 46]
abbrev dktX1_places_3 : List UInt8 := dkwX1_places_3 ++ dktX1_places_4
def dkwX1_places_2 : List UInt8 := [162, 0, 159, 3, 54, 9, 3, 54, 10, 21, 10, 42, 180, 0, 29, 28, 46, 162, 0, 103, 42, 27, 21, 8]
abbrev dktX1_places_2 : List UInt8 := dkwX1_places_2 ++ dktX1_places_3
def dkwX1_places_1 : List UInt8 := [154, 0, 6, 16, 247, 172, 9, 55, 5, 3, 54, 7, 3, 54, 8, 21, 8, 42, 180, 0, 29, 27, 46]
abbrev dktX1_places_1 : List UInt8 := dkwX1_places_1 ++ dktX1_places_2
def dkwX1_places_0 : List UInt8 := [42, 4, 27, 28, 182, 0, 188, 54, 4, 21, 4, 156, 0, 6, 21, 4, 172, 42, 27, 28, 182, 0, 210]
abbrev dktX1_places_0 : List UInt8 := dkwX1_places_0 ++ dktX1_places_1
theorem dksX1_places_0 : cX1_places.data.toList.drop 0 = dktX1_places_0 := by decide +kernel
theorem dksX1_places_1 : cX1_places.data.toList.drop 23 = dktX1_places_1 := dk_seg dksX1_places_0 23 rfl rfl
theorem dksX1_places_2 : cX1_places.data.toList.drop 46 = dktX1_places_2 := dk_seg dksX1_places_1 23 rfl rfl
theorem dksX1_places_3 : cX1_places.data.toList.drop 70 = dktX1_places_3 := dk_seg dksX1_places_2 24 rfl rfl
theorem dksX1_places_4 : cX1_places.data.toList.drop 92 = dktX1_places_4 := dk_seg dksX1_places_3 22 rfl rfl
theorem dksX1_places_5 : cX1_places.data.toList.drop 116 = dktX1_places_5 := dk_seg dksX1_places_4 24 rfl rfl
theorem dksX1_places_6 : cX1_places.data.toList.drop 139 = dktX1_places_6 := dk_seg dksX1_places_5 23 rfl rfl
theorem dksX1_places_7 : cX1_places.data.toList.drop 163 = dktX1_places_7 := dk_seg dksX1_places_6 24 rfl rfl
theorem dksX1_places_8 : cX1_places.data.toList.drop 186 = dktX1_places_8 := dk_seg dksX1_places_7 23 rfl rfl
theorem dksX1_places_9 : cX1_places.data.toList.drop 210 = dktX1_places_9 := dk_seg dksX1_places_8 24 rfl rfl
theorem dX1_places_0 : decode cX1_places 0 = .ok (.aload_n 0, 1) := dk_42 (dk_at dksX1_places_0 0 rfl rfl)
theorem dX1_places_1 : decode cX1_places 1 = .ok (.iconst 1, 1) := dk_4 (dk_at dksX1_places_0 1 rfl rfl)
theorem dX1_places_2 : decode cX1_places 2 = .ok (.iload_n 1, 1) := dk_27 (dk_at dksX1_places_0 2 rfl rfl)
theorem dX1_places_3 : decode cX1_places 3 = .ok (.iload_n 2, 1) := dk_28 (dk_at dksX1_places_0 3 rfl rfl)
theorem dX1_places_4 : decode cX1_places 4 = .ok (.invokevirtual 188, 3) := dk_182 0 188 (dk_at dksX1_places_0 4 rfl rfl)
theorem dX1_places_7 : decode cX1_places 7 = .ok (.istore 4, 2) := dk_54 4 (dk_at dksX1_places_0 7 rfl rfl)
theorem dX1_places_9 : decode cX1_places 9 = .ok (.iload 4, 2) := dk_21 4 (dk_at dksX1_places_0 9 rfl rfl)
theorem dX1_places_11 : decode cX1_places 11 = .ok (.ifCond .ge 6, 3) := dk_156 0 6 (dk_at dksX1_places_0 11 rfl rfl)
theorem dX1_places_14 : decode cX1_places 14 = .ok (.iload 4, 2) := dk_21 4 (dk_at dksX1_places_0 14 rfl rfl)
theorem dX1_places_16 : decode cX1_places 16 = .ok (.ireturn, 1) := dk_172 (dk_at dksX1_places_0 16 rfl rfl)
theorem dX1_places_17 : decode cX1_places 17 = .ok (.aload_n 0, 1) := dk_42 (dk_at dksX1_places_0 17 rfl rfl)
theorem dX1_places_18 : decode cX1_places 18 = .ok (.iload_n 1, 1) := dk_27 (dk_at dksX1_places_0 18 rfl rfl)
theorem dX1_places_19 : decode cX1_places 19 = .ok (.iload_n 2, 1) := dk_28 (dk_at dksX1_places_0 19 rfl rfl)
theorem dX1_places_20 : decode cX1_places 20 = .ok (.invokevirtual 210, 3) := dk_182 0 210 (dk_at dksX1_places_0 20 rfl rfl)
theorem dX1_places_23 : decode cX1_places 23 = .ok (.ifCond .ne 6, 3) := dk_154 0 6 (dk_at dksX1_places_1 0 rfl rfl)
theorem dX1_places_26 : decode cX1_places 26 = .ok (.bipush (-9), 2) := dk_16 247 (dk_at dksX1_places_1 3 rfl rfl)
theorem dX1_places_28 : decode cX1_places 28 = .ok (.ireturn, 1) := dk_172 (dk_at dksX1_places_1 5 rfl rfl)
theorem dX1_places_29 : decode cX1_places 29 = .ok (.lconst 0, 1) := dk_9 (dk_at dksX1_places_1 6 rfl rfl)
theorem dX1_places_30 : decode cX1_places 30 = .ok (.lstore 5, 2) := dk_55 5 (dk_at dksX1_places_1 7 rfl rfl)
theorem dX1_places_32 : decode cX1_places 32 = .ok (.iconst 0, 1) := dk_3 (dk_at dksX1_places_1 9 rfl rfl)
theorem dX1_places_33 : decode cX1_places 33 = .ok (.istore 7, 2) := dk_54 7 (dk_at dksX1_places_1 10 rfl rfl)
theorem dX1_places_35 : decode cX1_places 35 = .ok (.iconst 0, 1) := dk_3 (dk_at dksX1_places_1 12 rfl rfl)
theorem dX1_places_36 : decode cX1_places 36 = .ok (.istore 8, 2) := dk_54 8 (dk_at dksX1_places_1 13 rfl rfl)
theorem dX1_places_38 : decode cX1_places 38 = .ok (.iload 8, 2) := dk_21 8 (dk_at dksX1_places_1 15 rfl rfl)
theorem dX1_places_40 : decode cX1_places 40 = .ok (.aload_n 0, 1) := dk_42 (dk_at dksX1_places_1 17 rfl rfl)
theorem dX1_places_41 : decode cX1_places 41 = .ok (.getfield 29, 3) := dk_180 0 29 (dk_at dksX1_places_1 18 rfl rfl)
theorem dX1_places_44 : decode cX1_places 44 = .ok (.iload_n 1, 1) := dk_27 (dk_at dksX1_places_1 21 rfl rfl)
theorem dX1_places_45 : decode cX1_places 45 = .ok (.iaload, 1) := dk_46 (dk_at dksX1_places_1 22 rfl rfl)
theorem dX1_places_46 : decode cX1_places 46 = .ok (.if_icmp .ge 159, 3) := dk_162 0 159 (dk_at dksX1_places_2 0 rfl rfl)
theorem dX1_places_49 : decode cX1_places 49 = .ok (.iconst 0, 1) := dk_3 (dk_at dksX1_places_2 3 rfl rfl)
theorem dX1_places_50 : decode cX1_places 50 = .ok (.istore 9, 2) := dk_54 9 (dk_at dksX1_places_2 4 rfl rfl)
theorem dX1_places_52 : decode cX1_places 52 = .ok (.iconst 0, 1) := dk_3 (dk_at dksX1_places_2 6 rfl rfl)
theorem dX1_places_53 : decode cX1_places 53 = .ok (.istore 10, 2) := dk_54 10 (dk_at dksX1_places_2 7 rfl rfl)
theorem dX1_places_55 : decode cX1_places 55 = .ok (.iload 10, 2) := dk_21 10 (dk_at dksX1_places_2 9 rfl rfl)
theorem dX1_places_57 : decode cX1_places 57 = .ok (.aload_n 0, 1) := dk_42 (dk_at dksX1_places_2 11 rfl rfl)
theorem dX1_places_58 : decode cX1_places 58 = .ok (.getfield 29, 3) := dk_180 0 29 (dk_at dksX1_places_2 12 rfl rfl)
theorem dX1_places_61 : decode cX1_places 61 = .ok (.iload_n 2, 1) := dk_28 (dk_at dksX1_places_2 15 rfl rfl)
theorem dX1_places_62 : decode cX1_places 62 = .ok (.iaload, 1) := dk_46 (dk_at dksX1_places_2 16 rfl rfl)
theorem dX1_places_63 : decode cX1_places 63 = .ok (.if_icmp .ge 103, 3) := dk_162 0 103 (dk_at dksX1_places_2 17 rfl rfl)
theorem dX1_places_66 : decode cX1_places 66 = .ok (.aload_n 0, 1) := dk_42 (dk_at dksX1_places_2 20 rfl rfl)
theorem dX1_places_67 : decode cX1_places 67 = .ok (.iload_n 1, 1) := dk_27 (dk_at dksX1_places_2 21 rfl rfl)
theorem dX1_places_68 : decode cX1_places 68 = .ok (.iload 8, 2) := dk_21 8 (dk_at dksX1_places_2 22 rfl rfl)
theorem dX1_places_70 : decode cX1_places 70 = .ok (.invokevirtual 148, 3) := dk_182 0 148 (dk_at dksX1_places_3 0 rfl rfl)
theorem dX1_places_73 : decode cX1_places 73 = .ok (.aload_n 0, 1) := dk_42 (dk_at dksX1_places_3 3 rfl rfl)
theorem dX1_places_74 : decode cX1_places 74 = .ok (.iload_n 2, 1) := dk_28 (dk_at dksX1_places_3 4 rfl rfl)
theorem dX1_places_75 : decode cX1_places 75 = .ok (.iload 10, 2) := dk_21 10 (dk_at dksX1_places_3 5 rfl rfl)
theorem dX1_places_77 : decode cX1_places 77 = .ok (.invokevirtual 148, 3) := dk_182 0 148 (dk_at dksX1_places_3 7 rfl rfl)
theorem dX1_places_80 : decode cX1_places 80 = .ok (.if_icmp .ne 31, 3) := dk_160 0 31 (dk_at dksX1_places_3 10 rfl rfl)
theorem dX1_places_83 : decode cX1_places 83 = .ok (.iload 8, 2) := dk_21 8 (dk_at dksX1_places_3 13 rfl rfl)
theorem dX1_places_85 : decode cX1_places 85 = .ok (.aload_n 0, 1) := dk_42 (dk_at dksX1_places_3 15 rfl rfl)
theorem dX1_places_86 : decode cX1_places 86 = .ok (.getfield 57, 3) := dk_180 0 57 (dk_at dksX1_places_3 16 rfl rfl)
theorem dX1_places_89 : decode cX1_places 89 = .ok (.iload 10, 2) := dk_21 10 (dk_at dksX1_places_3 19 rfl rfl)
theorem dX1_places_91 : decode cX1_places 91 = .ok (.iaload, 1) := dk_46 (dk_at dksX1_places_3 21 rfl rfl)
theorem dX1_places_92 : decode cX1_places 92 = .ok (.if_icmp .lt 19, 3) := dk_161 0 19 (dk_at dksX1_places_4 0 rfl rfl)
theorem dX1_places_95 : decode cX1_places 95 = .ok (.iload 8, 2) := dk_21 8 (dk_at dksX1_places_4 3 rfl rfl)
theorem dX1_places_97 : decode cX1_places 97 = .ok (.aload_n 0, 1) := dk_42 (dk_at dksX1_places_4 5 rfl rfl)
theorem dX1_places_98 : decode cX1_places 98 = .ok (.getfield 60, 3) := dk_180 0 60 (dk_at dksX1_places_4 6 rfl rfl)
theorem dX1_places_101 : decode cX1_places 101 = .ok (.iload 10, 2) := dk_21 10 (dk_at dksX1_places_4 9 rfl rfl)
theorem dX1_places_103 : decode cX1_places 103 = .ok (.iaload, 1) := dk_46 (dk_at dksX1_places_4 11 rfl rfl)
theorem dX1_places_104 : decode cX1_places 104 = .ok (.if_icmp .gt 7, 3) := dk_163 0 7 (dk_at dksX1_places_4 12 rfl rfl)
theorem dX1_places_107 : decode cX1_places 107 = .ok (.iconst 1, 1) := dk_4 (dk_at dksX1_places_4 15 rfl rfl)
theorem dX1_places_108 : decode cX1_places 108 = .ok (.goto 4, 3) := dk_167 0 4 (dk_at dksX1_places_4 16 rfl rfl)
theorem dX1_places_111 : decode cX1_places 111 = .ok (.iconst 0, 1) := dk_3 (dk_at dksX1_places_4 19 rfl rfl)
theorem dX1_places_112 : decode cX1_places 112 = .ok (.istore 11, 2) := dk_54 11 (dk_at dksX1_places_4 20 rfl rfl)
theorem dX1_places_114 : decode cX1_places 114 = .ok (.iload 9, 2) := dk_21 9 (dk_at dksX1_places_4 22 rfl rfl)
theorem dX1_places_116 : decode cX1_places 116 = .ok (.ifCond .ne 37, 3) := dk_154 0 37 (dk_at dksX1_places_5 0 rfl rfl)
theorem dX1_places_119 : decode cX1_places 119 = .ok (.iload_n 3, 1) := dk_29 (dk_at dksX1_places_5 3 rfl rfl)
theorem dX1_places_120 : decode cX1_places 120 = .ok (.ifCond .eq 28, 3) := dk_153 0 28 (dk_at dksX1_places_5 4 rfl rfl)
theorem dX1_places_123 : decode cX1_places 123 = .ok (.iload 11, 2) := dk_21 11 (dk_at dksX1_places_5 7 rfl rfl)
theorem dX1_places_125 : decode cX1_places 125 = .ok (.ifCond .eq 32, 3) := dk_153 0 32 (dk_at dksX1_places_5 9 rfl rfl)
theorem dX1_places_128 : decode cX1_places 128 = .ok (.aload_n 0, 1) := dk_42 (dk_at dksX1_places_5 12 rfl rfl)
theorem dX1_places_129 : decode cX1_places 129 = .ok (.getfield 57, 3) := dk_180 0 57 (dk_at dksX1_places_5 13 rfl rfl)
theorem dX1_places_132 : decode cX1_places 132 = .ok (.iload 10, 2) := dk_21 10 (dk_at dksX1_places_5 16 rfl rfl)
theorem dX1_places_134 : decode cX1_places 134 = .ok (.iaload, 1) := dk_46 (dk_at dksX1_places_5 18 rfl rfl)
theorem dX1_places_135 : decode cX1_places 135 = .ok (.aload_n 0, 1) := dk_42 (dk_at dksX1_places_5 19 rfl rfl)
theorem dX1_places_136 : decode cX1_places 136 = .ok (.getfield 60, 3) := dk_180 0 60 (dk_at dksX1_places_5 20 rfl rfl)
theorem dX1_places_139 : decode cX1_places 139 = .ok (.iload 10, 2) := dk_21 10 (dk_at dksX1_places_6 0 rfl rfl)
theorem dX1_places_141 : decode cX1_places 141 = .ok (.iaload, 1) := dk_46 (dk_at dksX1_places_6 2 rfl rfl)
theorem dX1_places_142 : decode cX1_places 142 = .ok (.if_icmp .ne 15, 3) := dk_160 0 15 (dk_at dksX1_places_6 3 rfl rfl)
theorem dX1_places_145 : decode cX1_places 145 = .ok (.goto 8, 3) := dk_167 0 8 (dk_at dksX1_places_6 6 rfl rfl)
theorem dX1_places_148 : decode cX1_places 148 = .ok (.iload 11, 2) := dk_21 11 (dk_at dksX1_places_6 9 rfl rfl)
theorem dX1_places_150 : decode cX1_places 150 = .ok (.ifCond .eq 7, 3) := dk_153 0 7 (dk_at dksX1_places_6 11 rfl rfl)
theorem dX1_places_153 : decode cX1_places 153 = .ok (.iconst 1, 1) := dk_4 (dk_at dksX1_places_6 14 rfl rfl)
theorem dX1_places_154 : decode cX1_places 154 = .ok (.goto 4, 3) := dk_167 0 4 (dk_at dksX1_places_6 15 rfl rfl)
theorem dX1_places_157 : decode cX1_places 157 = .ok (.iconst 0, 1) := dk_3 (dk_at dksX1_places_6 18 rfl rfl)
theorem dX1_places_158 : decode cX1_places 158 = .ok (.istore 9, 2) := dk_54 9 (dk_at dksX1_places_6 19 rfl rfl)
theorem dX1_places_160 : decode cX1_places 160 = .ok (.iinc 10 1, 3) := dk_132 10 1 (dk_at dksX1_places_6 21 rfl rfl)
theorem dX1_places_163 : decode cX1_places 163 = .ok (.goto (-108), 3) := dk_167 255 148 (dk_at dksX1_places_7 0 rfl rfl)
theorem dX1_places_166 : decode cX1_places 166 = .ok (.lload 5, 2) := dk_22 5 (dk_at dksX1_places_7 3 rfl rfl)
theorem dX1_places_168 : decode cX1_places 168 = .ok (.iload 9, 2) := dk_21 9 (dk_at dksX1_places_7 5 rfl rfl)
theorem dX1_places_170 : decode cX1_places 170 = .ok (.ifCond .eq 10, 3) := dk_153 0 10 (dk_at dksX1_places_7 7 rfl rfl)
theorem dX1_places_173 : decode cX1_places 173 = .ok (.lconst 1, 1) := dk_10 (dk_at dksX1_places_7 10 rfl rfl)
theorem dX1_places_174 : decode cX1_places 174 = .ok (.iload 8, 2) := dk_21 8 (dk_at dksX1_places_7 11 rfl rfl)
theorem dX1_places_176 : decode cX1_places 176 = .ok (.lshl, 1) := dk_121 (dk_at dksX1_places_7 13 rfl rfl)
theorem dX1_places_177 : decode cX1_places 177 = .ok (.goto 4, 3) := dk_167 0 4 (dk_at dksX1_places_7 14 rfl rfl)
theorem dX1_places_180 : decode cX1_places 180 = .ok (.lconst 0, 1) := dk_9 (dk_at dksX1_places_7 17 rfl rfl)
theorem dX1_places_181 : decode cX1_places 181 = .ok (.lor, 1) := dk_129 (dk_at dksX1_places_7 18 rfl rfl)
theorem dX1_places_182 : decode cX1_places 182 = .ok (.lstore 5, 2) := dk_55 5 (dk_at dksX1_places_7 19 rfl rfl)
theorem dX1_places_184 : decode cX1_places 184 = .ok (.iload 7, 2) := dk_21 7 (dk_at dksX1_places_7 21 rfl rfl)
theorem dX1_places_186 : decode cX1_places 186 = .ok (.iload 9, 2) := dk_21 9 (dk_at dksX1_places_8 0 rfl rfl)
theorem dX1_places_188 : decode cX1_places 188 = .ok (.ifCond .eq 7, 3) := dk_153 0 7 (dk_at dksX1_places_8 2 rfl rfl)
theorem dX1_places_191 : decode cX1_places 191 = .ok (.iconst 1, 1) := dk_4 (dk_at dksX1_places_8 5 rfl rfl)
theorem dX1_places_192 : decode cX1_places 192 = .ok (.goto 4, 3) := dk_167 0 4 (dk_at dksX1_places_8 6 rfl rfl)
theorem dX1_places_195 : decode cX1_places 195 = .ok (.iconst 0, 1) := dk_3 (dk_at dksX1_places_8 9 rfl rfl)
theorem dX1_places_196 : decode cX1_places 196 = .ok (.iadd, 1) := dk_96 (dk_at dksX1_places_8 10 rfl rfl)
theorem dX1_places_197 : decode cX1_places 197 = .ok (.istore 7, 2) := dk_54 7 (dk_at dksX1_places_8 11 rfl rfl)
theorem dX1_places_199 : decode cX1_places 199 = .ok (.iinc 8 1, 3) := dk_132 8 1 (dk_at dksX1_places_8 13 rfl rfl)
theorem dX1_places_202 : decode cX1_places 202 = .ok (.goto (-164), 3) := dk_167 255 92 (dk_at dksX1_places_8 16 rfl rfl)
theorem dX1_places_205 : decode cX1_places 205 = .ok (.aload_n 0, 1) := dk_42 (dk_at dksX1_places_8 19 rfl rfl)
theorem dX1_places_206 : decode cX1_places 206 = .ok (.lload 5, 2) := dk_22 5 (dk_at dksX1_places_8 20 rfl rfl)
theorem dX1_places_208 : decode cX1_places 208 = .ok (.iload 7, 2) := dk_21 7 (dk_at dksX1_places_8 22 rfl rfl)
theorem dX1_places_210 : decode cX1_places 210 = .ok (.invokevirtual 202, 3) := dk_182 0 202 (dk_at dksX1_places_9 0 rfl rfl)
theorem dX1_places_213 : decode cX1_places 213 = .ok (.ireturn, 1) := dk_172 (dk_at dksX1_places_9 3 rfl rfl)
abbrev cX1_judge : ByteArray := prog_8_method_57_code
def yX1_judge : MethodName := ⟨RX1, "judge", "(III)I"⟩
def dkwX1_judge_7 : List UInt8 := [153, 0, 7, 4, 167, 0, 4, 3, 172]
abbrev dktX1_judge_7 : List UInt8 := dkwX1_judge_7 ++ []
def dkwX1_judge_6 : List UInt8 := [160, 0, 7, 4, 167, 0, 4, 3, 54, 4, 21, 7, 54, 5, 132, 6, 1, 167, 255, 182, 21, 4]
abbrev dktX1_judge_6 : List UInt8 := dkwX1_judge_6 ++ dktX1_judge_7
def dkwX1_judge_5 : List UInt8 := [180, 0, 29, 27, 46, 162, 0, 24, 42, 27, 21, 7, 182, 0, 148, 42, 28, 21, 6, 182, 0, 148]
abbrev dktX1_judge_5 : List UInt8 := dkwX1_judge_5 ++ dktX1_judge_6
def dkwX1_judge_4 : List UInt8 := [21, 4, 153, 0, 64, 42, 29, 21, 6, 182, 0, 138, 54, 7, 21, 7, 21, 5, 164, 0, 35, 21, 7, 42]
abbrev dktX1_judge_4 : List UInt8 := dkwX1_judge_4 ++ dktX1_judge_5
def dkwX1_judge_3 : List UInt8 := [167, 0, 4, 3, 54, 4, 2, 54, 5, 3, 54, 6, 21, 6, 42, 180, 0, 13, 29, 46, 162, 0, 69]
abbrev dktX1_judge_3 : List UInt8 := dkwX1_judge_3 ++ dktX1_judge_4
def dkwX1_judge_2 : List UInt8 := [42, 4, 182, 0, 134, 172, 42, 180, 0, 13, 29, 46, 42, 180, 0, 29, 28, 46, 160, 0, 7, 4]
abbrev dktX1_judge_2 : List UInt8 := dkwX1_judge_2 ++ dktX1_judge_3
def dkwX1_judge_1 : List UInt8 := [27, 182, 0, 185, 153, 0, 20, 42, 28, 182, 0, 185, 153, 0, 12, 42, 180, 0, 13, 29, 46, 156, 0, 9]
abbrev dktX1_judge_1 : List UInt8 := dkwX1_judge_1 ++ dktX1_judge_2
def dkwX1_judge_0 : List UInt8 := [27, 184, 0, 154, 153, 0, 17, 28, 184, 0, 154, 153, 0, 10, 29, 184, 0, 130, 154, 0, 5, 2, 172, 42]
abbrev dktX1_judge_0 : List UInt8 := dkwX1_judge_0 ++ dktX1_judge_1
theorem dksX1_judge_0 : cX1_judge.data.toList.drop 0 = dktX1_judge_0 := by decide +kernel
theorem dksX1_judge_1 : cX1_judge.data.toList.drop 24 = dktX1_judge_1 := dk_seg dksX1_judge_0 24 rfl rfl
theorem dksX1_judge_2 : cX1_judge.data.toList.drop 48 = dktX1_judge_2 := dk_seg dksX1_judge_1 24 rfl rfl
theorem dksX1_judge_3 : cX1_judge.data.toList.drop 70 = dktX1_judge_3 := dk_seg dksX1_judge_2 22 rfl rfl
theorem dksX1_judge_4 : cX1_judge.data.toList.drop 93 = dktX1_judge_4 := dk_seg dksX1_judge_3 23 rfl rfl
theorem dksX1_judge_5 : cX1_judge.data.toList.drop 117 = dktX1_judge_5 := dk_seg dksX1_judge_4 24 rfl rfl
theorem dksX1_judge_6 : cX1_judge.data.toList.drop 139 = dktX1_judge_6 := dk_seg dksX1_judge_5 22 rfl rfl
theorem dksX1_judge_7 : cX1_judge.data.toList.drop 161 = dktX1_judge_7 := dk_seg dksX1_judge_6 22 rfl rfl
theorem dX1_judge_0 : decode cX1_judge 0 = .ok (.iload_n 1, 1) := dk_27 (dk_at dksX1_judge_0 0 rfl rfl)
theorem dX1_judge_1 : decode cX1_judge 1 = .ok (.invokestatic 154, 3) := dk_184 0 154 (dk_at dksX1_judge_0 1 rfl rfl)
theorem dX1_judge_4 : decode cX1_judge 4 = .ok (.ifCond .eq 17, 3) := dk_153 0 17 (dk_at dksX1_judge_0 4 rfl rfl)
theorem dX1_judge_7 : decode cX1_judge 7 = .ok (.iload_n 2, 1) := dk_28 (dk_at dksX1_judge_0 7 rfl rfl)
theorem dX1_judge_8 : decode cX1_judge 8 = .ok (.invokestatic 154, 3) := dk_184 0 154 (dk_at dksX1_judge_0 8 rfl rfl)
theorem dX1_judge_11 : decode cX1_judge 11 = .ok (.ifCond .eq 10, 3) := dk_153 0 10 (dk_at dksX1_judge_0 11 rfl rfl)
theorem dX1_judge_14 : decode cX1_judge 14 = .ok (.iload_n 3, 1) := dk_29 (dk_at dksX1_judge_0 14 rfl rfl)
theorem dX1_judge_15 : decode cX1_judge 15 = .ok (.invokestatic 130, 3) := dk_184 0 130 (dk_at dksX1_judge_0 15 rfl rfl)
theorem dX1_judge_18 : decode cX1_judge 18 = .ok (.ifCond .ne 5, 3) := dk_154 0 5 (dk_at dksX1_judge_0 18 rfl rfl)
theorem dX1_judge_21 : decode cX1_judge 21 = .ok (.iconst (-1), 1) := dk_2 (dk_at dksX1_judge_0 21 rfl rfl)
theorem dX1_judge_22 : decode cX1_judge 22 = .ok (.ireturn, 1) := dk_172 (dk_at dksX1_judge_0 22 rfl rfl)
theorem dX1_judge_23 : decode cX1_judge 23 = .ok (.aload_n 0, 1) := dk_42 (dk_at dksX1_judge_0 23 rfl rfl)
theorem dX1_judge_24 : decode cX1_judge 24 = .ok (.iload_n 1, 1) := dk_27 (dk_at dksX1_judge_1 0 rfl rfl)
theorem dX1_judge_25 : decode cX1_judge 25 = .ok (.invokevirtual 185, 3) := dk_182 0 185 (dk_at dksX1_judge_1 1 rfl rfl)
theorem dX1_judge_28 : decode cX1_judge 28 = .ok (.ifCond .eq 20, 3) := dk_153 0 20 (dk_at dksX1_judge_1 4 rfl rfl)
theorem dX1_judge_31 : decode cX1_judge 31 = .ok (.aload_n 0, 1) := dk_42 (dk_at dksX1_judge_1 7 rfl rfl)
theorem dX1_judge_32 : decode cX1_judge 32 = .ok (.iload_n 2, 1) := dk_28 (dk_at dksX1_judge_1 8 rfl rfl)
theorem dX1_judge_33 : decode cX1_judge 33 = .ok (.invokevirtual 185, 3) := dk_182 0 185 (dk_at dksX1_judge_1 9 rfl rfl)
theorem dX1_judge_36 : decode cX1_judge 36 = .ok (.ifCond .eq 12, 3) := dk_153 0 12 (dk_at dksX1_judge_1 12 rfl rfl)
theorem dX1_judge_39 : decode cX1_judge 39 = .ok (.aload_n 0, 1) := dk_42 (dk_at dksX1_judge_1 15 rfl rfl)
theorem dX1_judge_40 : decode cX1_judge 40 = .ok (.getfield 13, 3) := dk_180 0 13 (dk_at dksX1_judge_1 16 rfl rfl)
theorem dX1_judge_43 : decode cX1_judge 43 = .ok (.iload_n 3, 1) := dk_29 (dk_at dksX1_judge_1 19 rfl rfl)
theorem dX1_judge_44 : decode cX1_judge 44 = .ok (.iaload, 1) := dk_46 (dk_at dksX1_judge_1 20 rfl rfl)
theorem dX1_judge_45 : decode cX1_judge 45 = .ok (.ifCond .ge 9, 3) := dk_156 0 9 (dk_at dksX1_judge_1 21 rfl rfl)
theorem dX1_judge_48 : decode cX1_judge 48 = .ok (.aload_n 0, 1) := dk_42 (dk_at dksX1_judge_2 0 rfl rfl)
theorem dX1_judge_49 : decode cX1_judge 49 = .ok (.iconst 1, 1) := dk_4 (dk_at dksX1_judge_2 1 rfl rfl)
theorem dX1_judge_50 : decode cX1_judge 50 = .ok (.invokevirtual 134, 3) := dk_182 0 134 (dk_at dksX1_judge_2 2 rfl rfl)
theorem dX1_judge_53 : decode cX1_judge 53 = .ok (.ireturn, 1) := dk_172 (dk_at dksX1_judge_2 5 rfl rfl)
theorem dX1_judge_54 : decode cX1_judge 54 = .ok (.aload_n 0, 1) := dk_42 (dk_at dksX1_judge_2 6 rfl rfl)
theorem dX1_judge_55 : decode cX1_judge 55 = .ok (.getfield 13, 3) := dk_180 0 13 (dk_at dksX1_judge_2 7 rfl rfl)
theorem dX1_judge_58 : decode cX1_judge 58 = .ok (.iload_n 3, 1) := dk_29 (dk_at dksX1_judge_2 10 rfl rfl)
theorem dX1_judge_59 : decode cX1_judge 59 = .ok (.iaload, 1) := dk_46 (dk_at dksX1_judge_2 11 rfl rfl)
theorem dX1_judge_60 : decode cX1_judge 60 = .ok (.aload_n 0, 1) := dk_42 (dk_at dksX1_judge_2 12 rfl rfl)
theorem dX1_judge_61 : decode cX1_judge 61 = .ok (.getfield 29, 3) := dk_180 0 29 (dk_at dksX1_judge_2 13 rfl rfl)
theorem dX1_judge_64 : decode cX1_judge 64 = .ok (.iload_n 2, 1) := dk_28 (dk_at dksX1_judge_2 16 rfl rfl)
theorem dX1_judge_65 : decode cX1_judge 65 = .ok (.iaload, 1) := dk_46 (dk_at dksX1_judge_2 17 rfl rfl)
theorem dX1_judge_66 : decode cX1_judge 66 = .ok (.if_icmp .ne 7, 3) := dk_160 0 7 (dk_at dksX1_judge_2 18 rfl rfl)
theorem dX1_judge_69 : decode cX1_judge 69 = .ok (.iconst 1, 1) := dk_4 (dk_at dksX1_judge_2 21 rfl rfl)
theorem dX1_judge_70 : decode cX1_judge 70 = .ok (.goto 4, 3) := dk_167 0 4 (dk_at dksX1_judge_3 0 rfl rfl)
theorem dX1_judge_73 : decode cX1_judge 73 = .ok (.iconst 0, 1) := dk_3 (dk_at dksX1_judge_3 3 rfl rfl)
theorem dX1_judge_74 : decode cX1_judge 74 = .ok (.istore 4, 2) := dk_54 4 (dk_at dksX1_judge_3 4 rfl rfl)
theorem dX1_judge_76 : decode cX1_judge 76 = .ok (.iconst (-1), 1) := dk_2 (dk_at dksX1_judge_3 6 rfl rfl)
theorem dX1_judge_77 : decode cX1_judge 77 = .ok (.istore 5, 2) := dk_54 5 (dk_at dksX1_judge_3 7 rfl rfl)
theorem dX1_judge_79 : decode cX1_judge 79 = .ok (.iconst 0, 1) := dk_3 (dk_at dksX1_judge_3 9 rfl rfl)
theorem dX1_judge_80 : decode cX1_judge 80 = .ok (.istore 6, 2) := dk_54 6 (dk_at dksX1_judge_3 10 rfl rfl)
theorem dX1_judge_82 : decode cX1_judge 82 = .ok (.iload 6, 2) := dk_21 6 (dk_at dksX1_judge_3 12 rfl rfl)
theorem dX1_judge_84 : decode cX1_judge 84 = .ok (.aload_n 0, 1) := dk_42 (dk_at dksX1_judge_3 14 rfl rfl)
theorem dX1_judge_85 : decode cX1_judge 85 = .ok (.getfield 13, 3) := dk_180 0 13 (dk_at dksX1_judge_3 15 rfl rfl)
theorem dX1_judge_88 : decode cX1_judge 88 = .ok (.iload_n 3, 1) := dk_29 (dk_at dksX1_judge_3 18 rfl rfl)
theorem dX1_judge_89 : decode cX1_judge 89 = .ok (.iaload, 1) := dk_46 (dk_at dksX1_judge_3 19 rfl rfl)
theorem dX1_judge_90 : decode cX1_judge 90 = .ok (.if_icmp .ge 69, 3) := dk_162 0 69 (dk_at dksX1_judge_3 20 rfl rfl)
theorem dX1_judge_93 : decode cX1_judge 93 = .ok (.iload 4, 2) := dk_21 4 (dk_at dksX1_judge_4 0 rfl rfl)
theorem dX1_judge_95 : decode cX1_judge 95 = .ok (.ifCond .eq 64, 3) := dk_153 0 64 (dk_at dksX1_judge_4 2 rfl rfl)
theorem dX1_judge_98 : decode cX1_judge 98 = .ok (.aload_n 0, 1) := dk_42 (dk_at dksX1_judge_4 5 rfl rfl)
theorem dX1_judge_99 : decode cX1_judge 99 = .ok (.iload_n 3, 1) := dk_29 (dk_at dksX1_judge_4 6 rfl rfl)
theorem dX1_judge_100 : decode cX1_judge 100 = .ok (.iload 6, 2) := dk_21 6 (dk_at dksX1_judge_4 7 rfl rfl)
theorem dX1_judge_102 : decode cX1_judge 102 = .ok (.invokevirtual 138, 3) := dk_182 0 138 (dk_at dksX1_judge_4 9 rfl rfl)
theorem dX1_judge_105 : decode cX1_judge 105 = .ok (.istore 7, 2) := dk_54 7 (dk_at dksX1_judge_4 12 rfl rfl)
theorem dX1_judge_107 : decode cX1_judge 107 = .ok (.iload 7, 2) := dk_21 7 (dk_at dksX1_judge_4 14 rfl rfl)
theorem dX1_judge_109 : decode cX1_judge 109 = .ok (.iload 5, 2) := dk_21 5 (dk_at dksX1_judge_4 16 rfl rfl)
theorem dX1_judge_111 : decode cX1_judge 111 = .ok (.if_icmp .le 35, 3) := dk_164 0 35 (dk_at dksX1_judge_4 18 rfl rfl)
theorem dX1_judge_114 : decode cX1_judge 114 = .ok (.iload 7, 2) := dk_21 7 (dk_at dksX1_judge_4 21 rfl rfl)
theorem dX1_judge_116 : decode cX1_judge 116 = .ok (.aload_n 0, 1) := dk_42 (dk_at dksX1_judge_4 23 rfl rfl)
theorem dX1_judge_117 : decode cX1_judge 117 = .ok (.getfield 29, 3) := dk_180 0 29 (dk_at dksX1_judge_5 0 rfl rfl)
theorem dX1_judge_120 : decode cX1_judge 120 = .ok (.iload_n 1, 1) := dk_27 (dk_at dksX1_judge_5 3 rfl rfl)
theorem dX1_judge_121 : decode cX1_judge 121 = .ok (.iaload, 1) := dk_46 (dk_at dksX1_judge_5 4 rfl rfl)
theorem dX1_judge_122 : decode cX1_judge 122 = .ok (.if_icmp .ge 24, 3) := dk_162 0 24 (dk_at dksX1_judge_5 5 rfl rfl)
theorem dX1_judge_125 : decode cX1_judge 125 = .ok (.aload_n 0, 1) := dk_42 (dk_at dksX1_judge_5 8 rfl rfl)
theorem dX1_judge_126 : decode cX1_judge 126 = .ok (.iload_n 1, 1) := dk_27 (dk_at dksX1_judge_5 9 rfl rfl)
theorem dX1_judge_127 : decode cX1_judge 127 = .ok (.iload 7, 2) := dk_21 7 (dk_at dksX1_judge_5 10 rfl rfl)
theorem dX1_judge_129 : decode cX1_judge 129 = .ok (.invokevirtual 148, 3) := dk_182 0 148 (dk_at dksX1_judge_5 12 rfl rfl)
theorem dX1_judge_132 : decode cX1_judge 132 = .ok (.aload_n 0, 1) := dk_42 (dk_at dksX1_judge_5 15 rfl rfl)
theorem dX1_judge_133 : decode cX1_judge 133 = .ok (.iload_n 2, 1) := dk_28 (dk_at dksX1_judge_5 16 rfl rfl)
theorem dX1_judge_134 : decode cX1_judge 134 = .ok (.iload 6, 2) := dk_21 6 (dk_at dksX1_judge_5 17 rfl rfl)
theorem dX1_judge_136 : decode cX1_judge 136 = .ok (.invokevirtual 148, 3) := dk_182 0 148 (dk_at dksX1_judge_5 19 rfl rfl)
theorem dX1_judge_139 : decode cX1_judge 139 = .ok (.if_icmp .ne 7, 3) := dk_160 0 7 (dk_at dksX1_judge_6 0 rfl rfl)
theorem dX1_judge_142 : decode cX1_judge 142 = .ok (.iconst 1, 1) := dk_4 (dk_at dksX1_judge_6 3 rfl rfl)
theorem dX1_judge_143 : decode cX1_judge 143 = .ok (.goto 4, 3) := dk_167 0 4 (dk_at dksX1_judge_6 4 rfl rfl)
theorem dX1_judge_146 : decode cX1_judge 146 = .ok (.iconst 0, 1) := dk_3 (dk_at dksX1_judge_6 7 rfl rfl)
theorem dX1_judge_147 : decode cX1_judge 147 = .ok (.istore 4, 2) := dk_54 4 (dk_at dksX1_judge_6 8 rfl rfl)
theorem dX1_judge_149 : decode cX1_judge 149 = .ok (.iload 7, 2) := dk_21 7 (dk_at dksX1_judge_6 10 rfl rfl)
theorem dX1_judge_151 : decode cX1_judge 151 = .ok (.istore 5, 2) := dk_54 5 (dk_at dksX1_judge_6 12 rfl rfl)
theorem dX1_judge_153 : decode cX1_judge 153 = .ok (.iinc 6 1, 3) := dk_132 6 1 (dk_at dksX1_judge_6 14 rfl rfl)
theorem dX1_judge_156 : decode cX1_judge 156 = .ok (.goto (-74), 3) := dk_167 255 182 (dk_at dksX1_judge_6 17 rfl rfl)
theorem dX1_judge_159 : decode cX1_judge 159 = .ok (.iload 4, 2) := dk_21 4 (dk_at dksX1_judge_6 20 rfl rfl)
theorem dX1_judge_161 : decode cX1_judge 161 = .ok (.ifCond .eq 7, 3) := dk_153 0 7 (dk_at dksX1_judge_7 0 rfl rfl)
theorem dX1_judge_164 : decode cX1_judge 164 = .ok (.iconst 1, 1) := dk_4 (dk_at dksX1_judge_7 3 rfl rfl)
theorem dX1_judge_165 : decode cX1_judge 165 = .ok (.goto 4, 3) := dk_167 0 4 (dk_at dksX1_judge_7 4 rfl rfl)
theorem dX1_judge_168 : decode cX1_judge 168 = .ok (.iconst 0, 1) := dk_3 (dk_at dksX1_judge_7 7 rfl rfl)
theorem dX1_judge_169 : decode cX1_judge 169 = .ok (.ireturn, 1) := dk_172 (dk_at dksX1_judge_7 8 rfl rfl)
abbrev cX1_bar : ByteArray := prog_8_method_58_code
def yX1_bar : MethodName := ⟨RX1, "bar", "(II)I"⟩
def dkwX1_bar_9 : List UInt8 := [167, 0, 5, 21, 5, 54, 5, 132, 6, 1, 167, 255, 220, 21, 5, 172]
abbrev dktX1_bar_9 : List UInt8 := dkwX1_bar_9 ++ []
def dkwX1_bar_8 : List UInt8 := [21, 4, 162, 0, 35, 42, 180, 0, 63, 21, 6, 46, 21, 5, 162, 0, 13, 42, 180, 0, 63, 21, 6, 46]
abbrev dktX1_bar_8 : List UInt8 := dkwX1_bar_8 ++ dktX1_bar_9
def dkwX1_bar_7 : List UInt8 := [79, 132, 6, 255, 167, 255, 173, 132, 5, 1, 167, 255, 150, 17, 3, 232, 54, 5, 3, 54, 6, 21, 6]
abbrev dktX1_bar_7 : List UInt8 := dkwX1_bar_7 ++ dktX1_bar_8
def dkwX1_bar_6 : List UInt8 := [46, 167, 0, 12, 42, 180, 0, 63, 21, 6, 4, 96, 46, 79, 42, 180, 0, 63, 21, 6, 92, 46, 4, 96]
abbrev dktX1_bar_6 : List UInt8 := dkwX1_bar_6 ++ dktX1_bar_7
def dkwX1_bar_5 : List UInt8 := [180, 0, 63, 21, 6, 46, 42, 180, 0, 63, 21, 6, 4, 96, 46, 162, 0, 13, 42, 180, 0, 63, 21, 6]
abbrev dktX1_bar_5 : List UInt8 := dkwX1_bar_5 ++ dktX1_bar_6
def dkwX1_bar_4 : List UInt8 := [182, 0, 148, 42, 28, 21, 6, 182, 0, 148, 160, 0, 61, 42, 180, 0, 63, 21, 6, 4, 96, 42]
abbrev dktX1_bar_4 : List UInt8 := dkwX1_bar_4 ++ dktX1_bar_5
def dkwX1_bar_3 : List UInt8 := [180, 0, 29, 27, 46, 162, 0, 101, 21, 4, 4, 100, 54, 6, 21, 6, 155, 0, 84, 42, 27, 21, 5]
abbrev dktX1_bar_3 : List UInt8 := dkwX1_bar_3 ++ dktX1_bar_4
def dkwX1_bar_2 : List UInt8 := [154, 0, 7, 3, 167, 0, 6, 17, 3, 232, 79, 132, 5, 1, 167, 255, 227, 3, 54, 5, 21, 5, 42]
abbrev dktX1_bar_2 : List UInt8 := dkwX1_bar_2 ++ dktX1_bar_3
def dkwX1_bar_1 : List UInt8 := [154, 0, 6, 16, 252, 172, 3, 54, 5, 21, 5, 21, 4, 163, 0, 28, 42, 180, 0, 63, 21, 5, 21, 5]
abbrev dktX1_bar_1 : List UInt8 := dkwX1_bar_1 ++ dktX1_bar_2
def dkwX1_bar_0 : List UInt8 := [42, 4, 27, 28, 182, 0, 188, 62, 29, 156, 0, 5, 29, 172, 42, 180, 0, 29, 28, 46, 54, 4, 21, 4]
abbrev dktX1_bar_0 : List UInt8 := dkwX1_bar_0 ++ dktX1_bar_1
theorem dksX1_bar_0 : cX1_bar.data.toList.drop 0 = dktX1_bar_0 := by decide +kernel
theorem dksX1_bar_1 : cX1_bar.data.toList.drop 24 = dktX1_bar_1 := dk_seg dksX1_bar_0 24 rfl rfl
theorem dksX1_bar_2 : cX1_bar.data.toList.drop 48 = dktX1_bar_2 := dk_seg dksX1_bar_1 24 rfl rfl
theorem dksX1_bar_3 : cX1_bar.data.toList.drop 71 = dktX1_bar_3 := dk_seg dksX1_bar_2 23 rfl rfl
theorem dksX1_bar_4 : cX1_bar.data.toList.drop 94 = dktX1_bar_4 := dk_seg dksX1_bar_3 23 rfl rfl
theorem dksX1_bar_5 : cX1_bar.data.toList.drop 116 = dktX1_bar_5 := dk_seg dksX1_bar_4 22 rfl rfl
theorem dksX1_bar_6 : cX1_bar.data.toList.drop 140 = dktX1_bar_6 := dk_seg dksX1_bar_5 24 rfl rfl
theorem dksX1_bar_7 : cX1_bar.data.toList.drop 164 = dktX1_bar_7 := dk_seg dksX1_bar_6 24 rfl rfl
theorem dksX1_bar_8 : cX1_bar.data.toList.drop 187 = dktX1_bar_8 := dk_seg dksX1_bar_7 23 rfl rfl
theorem dksX1_bar_9 : cX1_bar.data.toList.drop 211 = dktX1_bar_9 := dk_seg dksX1_bar_8 24 rfl rfl
theorem dX1_bar_0 : decode cX1_bar 0 = .ok (.aload_n 0, 1) := dk_42 (dk_at dksX1_bar_0 0 rfl rfl)
theorem dX1_bar_1 : decode cX1_bar 1 = .ok (.iconst 1, 1) := dk_4 (dk_at dksX1_bar_0 1 rfl rfl)
theorem dX1_bar_2 : decode cX1_bar 2 = .ok (.iload_n 1, 1) := dk_27 (dk_at dksX1_bar_0 2 rfl rfl)
theorem dX1_bar_3 : decode cX1_bar 3 = .ok (.iload_n 2, 1) := dk_28 (dk_at dksX1_bar_0 3 rfl rfl)
theorem dX1_bar_4 : decode cX1_bar 4 = .ok (.invokevirtual 188, 3) := dk_182 0 188 (dk_at dksX1_bar_0 4 rfl rfl)
theorem dX1_bar_7 : decode cX1_bar 7 = .ok (.istore_n 3, 1) := dk_62 (dk_at dksX1_bar_0 7 rfl rfl)
theorem dX1_bar_8 : decode cX1_bar 8 = .ok (.iload_n 3, 1) := dk_29 (dk_at dksX1_bar_0 8 rfl rfl)
theorem dX1_bar_9 : decode cX1_bar 9 = .ok (.ifCond .ge 5, 3) := dk_156 0 5 (dk_at dksX1_bar_0 9 rfl rfl)
theorem dX1_bar_12 : decode cX1_bar 12 = .ok (.iload_n 3, 1) := dk_29 (dk_at dksX1_bar_0 12 rfl rfl)
theorem dX1_bar_13 : decode cX1_bar 13 = .ok (.ireturn, 1) := dk_172 (dk_at dksX1_bar_0 13 rfl rfl)
theorem dX1_bar_14 : decode cX1_bar 14 = .ok (.aload_n 0, 1) := dk_42 (dk_at dksX1_bar_0 14 rfl rfl)
theorem dX1_bar_15 : decode cX1_bar 15 = .ok (.getfield 29, 3) := dk_180 0 29 (dk_at dksX1_bar_0 15 rfl rfl)
theorem dX1_bar_18 : decode cX1_bar 18 = .ok (.iload_n 2, 1) := dk_28 (dk_at dksX1_bar_0 18 rfl rfl)
theorem dX1_bar_19 : decode cX1_bar 19 = .ok (.iaload, 1) := dk_46 (dk_at dksX1_bar_0 19 rfl rfl)
theorem dX1_bar_20 : decode cX1_bar 20 = .ok (.istore 4, 2) := dk_54 4 (dk_at dksX1_bar_0 20 rfl rfl)
theorem dX1_bar_22 : decode cX1_bar 22 = .ok (.iload 4, 2) := dk_21 4 (dk_at dksX1_bar_0 22 rfl rfl)
theorem dX1_bar_24 : decode cX1_bar 24 = .ok (.ifCond .ne 6, 3) := dk_154 0 6 (dk_at dksX1_bar_1 0 rfl rfl)
theorem dX1_bar_27 : decode cX1_bar 27 = .ok (.bipush (-4), 2) := dk_16 252 (dk_at dksX1_bar_1 3 rfl rfl)
theorem dX1_bar_29 : decode cX1_bar 29 = .ok (.ireturn, 1) := dk_172 (dk_at dksX1_bar_1 5 rfl rfl)
theorem dX1_bar_30 : decode cX1_bar 30 = .ok (.iconst 0, 1) := dk_3 (dk_at dksX1_bar_1 6 rfl rfl)
theorem dX1_bar_31 : decode cX1_bar 31 = .ok (.istore 5, 2) := dk_54 5 (dk_at dksX1_bar_1 7 rfl rfl)
theorem dX1_bar_33 : decode cX1_bar 33 = .ok (.iload 5, 2) := dk_21 5 (dk_at dksX1_bar_1 9 rfl rfl)
theorem dX1_bar_35 : decode cX1_bar 35 = .ok (.iload 4, 2) := dk_21 4 (dk_at dksX1_bar_1 11 rfl rfl)
theorem dX1_bar_37 : decode cX1_bar 37 = .ok (.if_icmp .gt 28, 3) := dk_163 0 28 (dk_at dksX1_bar_1 13 rfl rfl)
theorem dX1_bar_40 : decode cX1_bar 40 = .ok (.aload_n 0, 1) := dk_42 (dk_at dksX1_bar_1 16 rfl rfl)
theorem dX1_bar_41 : decode cX1_bar 41 = .ok (.getfield 63, 3) := dk_180 0 63 (dk_at dksX1_bar_1 17 rfl rfl)
theorem dX1_bar_44 : decode cX1_bar 44 = .ok (.iload 5, 2) := dk_21 5 (dk_at dksX1_bar_1 20 rfl rfl)
theorem dX1_bar_46 : decode cX1_bar 46 = .ok (.iload 5, 2) := dk_21 5 (dk_at dksX1_bar_1 22 rfl rfl)
theorem dX1_bar_48 : decode cX1_bar 48 = .ok (.ifCond .ne 7, 3) := dk_154 0 7 (dk_at dksX1_bar_2 0 rfl rfl)
theorem dX1_bar_51 : decode cX1_bar 51 = .ok (.iconst 0, 1) := dk_3 (dk_at dksX1_bar_2 3 rfl rfl)
theorem dX1_bar_52 : decode cX1_bar 52 = .ok (.goto 6, 3) := dk_167 0 6 (dk_at dksX1_bar_2 4 rfl rfl)
theorem dX1_bar_55 : decode cX1_bar 55 = .ok (.sipush 1000, 3) := dk_17 3 232 (dk_at dksX1_bar_2 7 rfl rfl)
theorem dX1_bar_58 : decode cX1_bar 58 = .ok (.iastore, 1) := dk_79 (dk_at dksX1_bar_2 10 rfl rfl)
theorem dX1_bar_59 : decode cX1_bar 59 = .ok (.iinc 5 1, 3) := dk_132 5 1 (dk_at dksX1_bar_2 11 rfl rfl)
theorem dX1_bar_62 : decode cX1_bar 62 = .ok (.goto (-29), 3) := dk_167 255 227 (dk_at dksX1_bar_2 14 rfl rfl)
theorem dX1_bar_65 : decode cX1_bar 65 = .ok (.iconst 0, 1) := dk_3 (dk_at dksX1_bar_2 17 rfl rfl)
theorem dX1_bar_66 : decode cX1_bar 66 = .ok (.istore 5, 2) := dk_54 5 (dk_at dksX1_bar_2 18 rfl rfl)
theorem dX1_bar_68 : decode cX1_bar 68 = .ok (.iload 5, 2) := dk_21 5 (dk_at dksX1_bar_2 20 rfl rfl)
theorem dX1_bar_70 : decode cX1_bar 70 = .ok (.aload_n 0, 1) := dk_42 (dk_at dksX1_bar_2 22 rfl rfl)
theorem dX1_bar_71 : decode cX1_bar 71 = .ok (.getfield 29, 3) := dk_180 0 29 (dk_at dksX1_bar_3 0 rfl rfl)
theorem dX1_bar_74 : decode cX1_bar 74 = .ok (.iload_n 1, 1) := dk_27 (dk_at dksX1_bar_3 3 rfl rfl)
theorem dX1_bar_75 : decode cX1_bar 75 = .ok (.iaload, 1) := dk_46 (dk_at dksX1_bar_3 4 rfl rfl)
theorem dX1_bar_76 : decode cX1_bar 76 = .ok (.if_icmp .ge 101, 3) := dk_162 0 101 (dk_at dksX1_bar_3 5 rfl rfl)
theorem dX1_bar_79 : decode cX1_bar 79 = .ok (.iload 4, 2) := dk_21 4 (dk_at dksX1_bar_3 8 rfl rfl)
theorem dX1_bar_81 : decode cX1_bar 81 = .ok (.iconst 1, 1) := dk_4 (dk_at dksX1_bar_3 10 rfl rfl)
theorem dX1_bar_82 : decode cX1_bar 82 = .ok (.isub, 1) := dk_100 (dk_at dksX1_bar_3 11 rfl rfl)
theorem dX1_bar_83 : decode cX1_bar 83 = .ok (.istore 6, 2) := dk_54 6 (dk_at dksX1_bar_3 12 rfl rfl)
theorem dX1_bar_85 : decode cX1_bar 85 = .ok (.iload 6, 2) := dk_21 6 (dk_at dksX1_bar_3 14 rfl rfl)
theorem dX1_bar_87 : decode cX1_bar 87 = .ok (.ifCond .lt 84, 3) := dk_155 0 84 (dk_at dksX1_bar_3 16 rfl rfl)
theorem dX1_bar_90 : decode cX1_bar 90 = .ok (.aload_n 0, 1) := dk_42 (dk_at dksX1_bar_3 19 rfl rfl)
theorem dX1_bar_91 : decode cX1_bar 91 = .ok (.iload_n 1, 1) := dk_27 (dk_at dksX1_bar_3 20 rfl rfl)
theorem dX1_bar_92 : decode cX1_bar 92 = .ok (.iload 5, 2) := dk_21 5 (dk_at dksX1_bar_3 21 rfl rfl)
theorem dX1_bar_94 : decode cX1_bar 94 = .ok (.invokevirtual 148, 3) := dk_182 0 148 (dk_at dksX1_bar_4 0 rfl rfl)
theorem dX1_bar_97 : decode cX1_bar 97 = .ok (.aload_n 0, 1) := dk_42 (dk_at dksX1_bar_4 3 rfl rfl)
theorem dX1_bar_98 : decode cX1_bar 98 = .ok (.iload_n 2, 1) := dk_28 (dk_at dksX1_bar_4 4 rfl rfl)
theorem dX1_bar_99 : decode cX1_bar 99 = .ok (.iload 6, 2) := dk_21 6 (dk_at dksX1_bar_4 5 rfl rfl)
theorem dX1_bar_101 : decode cX1_bar 101 = .ok (.invokevirtual 148, 3) := dk_182 0 148 (dk_at dksX1_bar_4 7 rfl rfl)
theorem dX1_bar_104 : decode cX1_bar 104 = .ok (.if_icmp .ne 61, 3) := dk_160 0 61 (dk_at dksX1_bar_4 10 rfl rfl)
theorem dX1_bar_107 : decode cX1_bar 107 = .ok (.aload_n 0, 1) := dk_42 (dk_at dksX1_bar_4 13 rfl rfl)
theorem dX1_bar_108 : decode cX1_bar 108 = .ok (.getfield 63, 3) := dk_180 0 63 (dk_at dksX1_bar_4 14 rfl rfl)
theorem dX1_bar_111 : decode cX1_bar 111 = .ok (.iload 6, 2) := dk_21 6 (dk_at dksX1_bar_4 17 rfl rfl)
theorem dX1_bar_113 : decode cX1_bar 113 = .ok (.iconst 1, 1) := dk_4 (dk_at dksX1_bar_4 19 rfl rfl)
theorem dX1_bar_114 : decode cX1_bar 114 = .ok (.iadd, 1) := dk_96 (dk_at dksX1_bar_4 20 rfl rfl)
theorem dX1_bar_115 : decode cX1_bar 115 = .ok (.aload_n 0, 1) := dk_42 (dk_at dksX1_bar_4 21 rfl rfl)
theorem dX1_bar_116 : decode cX1_bar 116 = .ok (.getfield 63, 3) := dk_180 0 63 (dk_at dksX1_bar_5 0 rfl rfl)
theorem dX1_bar_119 : decode cX1_bar 119 = .ok (.iload 6, 2) := dk_21 6 (dk_at dksX1_bar_5 3 rfl rfl)
theorem dX1_bar_121 : decode cX1_bar 121 = .ok (.iaload, 1) := dk_46 (dk_at dksX1_bar_5 5 rfl rfl)
theorem dX1_bar_122 : decode cX1_bar 122 = .ok (.aload_n 0, 1) := dk_42 (dk_at dksX1_bar_5 6 rfl rfl)
theorem dX1_bar_123 : decode cX1_bar 123 = .ok (.getfield 63, 3) := dk_180 0 63 (dk_at dksX1_bar_5 7 rfl rfl)
theorem dX1_bar_126 : decode cX1_bar 126 = .ok (.iload 6, 2) := dk_21 6 (dk_at dksX1_bar_5 10 rfl rfl)
theorem dX1_bar_128 : decode cX1_bar 128 = .ok (.iconst 1, 1) := dk_4 (dk_at dksX1_bar_5 12 rfl rfl)
theorem dX1_bar_129 : decode cX1_bar 129 = .ok (.iadd, 1) := dk_96 (dk_at dksX1_bar_5 13 rfl rfl)
theorem dX1_bar_130 : decode cX1_bar 130 = .ok (.iaload, 1) := dk_46 (dk_at dksX1_bar_5 14 rfl rfl)
theorem dX1_bar_131 : decode cX1_bar 131 = .ok (.if_icmp .ge 13, 3) := dk_162 0 13 (dk_at dksX1_bar_5 15 rfl rfl)
theorem dX1_bar_134 : decode cX1_bar 134 = .ok (.aload_n 0, 1) := dk_42 (dk_at dksX1_bar_5 18 rfl rfl)
theorem dX1_bar_135 : decode cX1_bar 135 = .ok (.getfield 63, 3) := dk_180 0 63 (dk_at dksX1_bar_5 19 rfl rfl)
theorem dX1_bar_138 : decode cX1_bar 138 = .ok (.iload 6, 2) := dk_21 6 (dk_at dksX1_bar_5 22 rfl rfl)
theorem dX1_bar_140 : decode cX1_bar 140 = .ok (.iaload, 1) := dk_46 (dk_at dksX1_bar_6 0 rfl rfl)
theorem dX1_bar_141 : decode cX1_bar 141 = .ok (.goto 12, 3) := dk_167 0 12 (dk_at dksX1_bar_6 1 rfl rfl)
theorem dX1_bar_144 : decode cX1_bar 144 = .ok (.aload_n 0, 1) := dk_42 (dk_at dksX1_bar_6 4 rfl rfl)
theorem dX1_bar_145 : decode cX1_bar 145 = .ok (.getfield 63, 3) := dk_180 0 63 (dk_at dksX1_bar_6 5 rfl rfl)
theorem dX1_bar_148 : decode cX1_bar 148 = .ok (.iload 6, 2) := dk_21 6 (dk_at dksX1_bar_6 8 rfl rfl)
theorem dX1_bar_150 : decode cX1_bar 150 = .ok (.iconst 1, 1) := dk_4 (dk_at dksX1_bar_6 10 rfl rfl)
theorem dX1_bar_151 : decode cX1_bar 151 = .ok (.iadd, 1) := dk_96 (dk_at dksX1_bar_6 11 rfl rfl)
theorem dX1_bar_152 : decode cX1_bar 152 = .ok (.iaload, 1) := dk_46 (dk_at dksX1_bar_6 12 rfl rfl)
theorem dX1_bar_153 : decode cX1_bar 153 = .ok (.iastore, 1) := dk_79 (dk_at dksX1_bar_6 13 rfl rfl)
theorem dX1_bar_154 : decode cX1_bar 154 = .ok (.aload_n 0, 1) := dk_42 (dk_at dksX1_bar_6 14 rfl rfl)
theorem dX1_bar_155 : decode cX1_bar 155 = .ok (.getfield 63, 3) := dk_180 0 63 (dk_at dksX1_bar_6 15 rfl rfl)
theorem dX1_bar_158 : decode cX1_bar 158 = .ok (.iload 6, 2) := dk_21 6 (dk_at dksX1_bar_6 18 rfl rfl)
theorem dX1_bar_160 : decode cX1_bar 160 = .ok (.dup2, 1) := dk_92 (dk_at dksX1_bar_6 20 rfl rfl)
theorem dX1_bar_161 : decode cX1_bar 161 = .ok (.iaload, 1) := dk_46 (dk_at dksX1_bar_6 21 rfl rfl)
theorem dX1_bar_162 : decode cX1_bar 162 = .ok (.iconst 1, 1) := dk_4 (dk_at dksX1_bar_6 22 rfl rfl)
theorem dX1_bar_163 : decode cX1_bar 163 = .ok (.iadd, 1) := dk_96 (dk_at dksX1_bar_6 23 rfl rfl)
theorem dX1_bar_164 : decode cX1_bar 164 = .ok (.iastore, 1) := dk_79 (dk_at dksX1_bar_7 0 rfl rfl)
theorem dX1_bar_165 : decode cX1_bar 165 = .ok (.iinc 6 (-1), 3) := dk_132 6 255 (dk_at dksX1_bar_7 1 rfl rfl)
theorem dX1_bar_168 : decode cX1_bar 168 = .ok (.goto (-83), 3) := dk_167 255 173 (dk_at dksX1_bar_7 4 rfl rfl)
theorem dX1_bar_171 : decode cX1_bar 171 = .ok (.iinc 5 1, 3) := dk_132 5 1 (dk_at dksX1_bar_7 7 rfl rfl)
theorem dX1_bar_174 : decode cX1_bar 174 = .ok (.goto (-106), 3) := dk_167 255 150 (dk_at dksX1_bar_7 10 rfl rfl)
theorem dX1_bar_177 : decode cX1_bar 177 = .ok (.sipush 1000, 3) := dk_17 3 232 (dk_at dksX1_bar_7 13 rfl rfl)
theorem dX1_bar_180 : decode cX1_bar 180 = .ok (.istore 5, 2) := dk_54 5 (dk_at dksX1_bar_7 16 rfl rfl)
theorem dX1_bar_182 : decode cX1_bar 182 = .ok (.iconst 0, 1) := dk_3 (dk_at dksX1_bar_7 18 rfl rfl)
theorem dX1_bar_183 : decode cX1_bar 183 = .ok (.istore 6, 2) := dk_54 6 (dk_at dksX1_bar_7 19 rfl rfl)
theorem dX1_bar_185 : decode cX1_bar 185 = .ok (.iload 6, 2) := dk_21 6 (dk_at dksX1_bar_7 21 rfl rfl)
theorem dX1_bar_187 : decode cX1_bar 187 = .ok (.iload 4, 2) := dk_21 4 (dk_at dksX1_bar_8 0 rfl rfl)
theorem dX1_bar_189 : decode cX1_bar 189 = .ok (.if_icmp .ge 35, 3) := dk_162 0 35 (dk_at dksX1_bar_8 2 rfl rfl)
theorem dX1_bar_192 : decode cX1_bar 192 = .ok (.aload_n 0, 1) := dk_42 (dk_at dksX1_bar_8 5 rfl rfl)
theorem dX1_bar_193 : decode cX1_bar 193 = .ok (.getfield 63, 3) := dk_180 0 63 (dk_at dksX1_bar_8 6 rfl rfl)
theorem dX1_bar_196 : decode cX1_bar 196 = .ok (.iload 6, 2) := dk_21 6 (dk_at dksX1_bar_8 9 rfl rfl)
theorem dX1_bar_198 : decode cX1_bar 198 = .ok (.iaload, 1) := dk_46 (dk_at dksX1_bar_8 11 rfl rfl)
theorem dX1_bar_199 : decode cX1_bar 199 = .ok (.iload 5, 2) := dk_21 5 (dk_at dksX1_bar_8 12 rfl rfl)
theorem dX1_bar_201 : decode cX1_bar 201 = .ok (.if_icmp .ge 13, 3) := dk_162 0 13 (dk_at dksX1_bar_8 14 rfl rfl)
theorem dX1_bar_204 : decode cX1_bar 204 = .ok (.aload_n 0, 1) := dk_42 (dk_at dksX1_bar_8 17 rfl rfl)
theorem dX1_bar_205 : decode cX1_bar 205 = .ok (.getfield 63, 3) := dk_180 0 63 (dk_at dksX1_bar_8 18 rfl rfl)
theorem dX1_bar_208 : decode cX1_bar 208 = .ok (.iload 6, 2) := dk_21 6 (dk_at dksX1_bar_8 21 rfl rfl)
theorem dX1_bar_210 : decode cX1_bar 210 = .ok (.iaload, 1) := dk_46 (dk_at dksX1_bar_8 23 rfl rfl)
theorem dX1_bar_211 : decode cX1_bar 211 = .ok (.goto 5, 3) := dk_167 0 5 (dk_at dksX1_bar_9 0 rfl rfl)
theorem dX1_bar_214 : decode cX1_bar 214 = .ok (.iload 5, 2) := dk_21 5 (dk_at dksX1_bar_9 3 rfl rfl)
theorem dX1_bar_216 : decode cX1_bar 216 = .ok (.istore 5, 2) := dk_54 5 (dk_at dksX1_bar_9 5 rfl rfl)
theorem dX1_bar_218 : decode cX1_bar 218 = .ok (.iinc 6 1, 3) := dk_132 6 1 (dk_at dksX1_bar_9 7 rfl rfl)
theorem dX1_bar_221 : decode cX1_bar 221 = .ok (.goto (-36), 3) := dk_167 255 220 (dk_at dksX1_bar_9 10 rfl rfl)
theorem dX1_bar_224 : decode cX1_bar 224 = .ok (.iload 5, 2) := dk_21 5 (dk_at dksX1_bar_9 13 rfl rfl)
theorem dX1_bar_226 : decode cX1_bar 226 = .ok (.ireturn, 1) := dk_172 (dk_at dksX1_bar_9 15 rfl rfl)
abbrev cX1_inner : ByteArray := prog_8_method_60_code
def yX1_inner : MethodName := ⟨RX1, "inner", "(II)I"⟩
def dkwX1_inner_3 : List UInt8 := [21, 6, 47, 167, 0, 4, 9, 97, 55, 4, 132, 6, 1, 167, 255, 218, 42, 22, 4, 4, 182, 0, 202, 172]
abbrev dktX1_inner_3 : List UInt8 := dkwX1_inner_3 ++ []
def dkwX1_inner_2 : List UInt8 := [16, 40, 163, 0, 37, 22, 4, 28, 16, 247, 159, 0, 9, 28, 21, 6, 160, 0, 13, 42, 180, 0, 66]
abbrev dktX1_inner_2 : List UInt8 := dkwX1_inner_2 ++ dktX1_inner_3
def dkwX1_inner_1 : List UInt8 := [182, 0, 192, 62, 29, 156, 0, 5, 29, 172, 42, 27, 182, 0, 217, 9, 55, 4, 3, 54, 6, 21, 6]
abbrev dktX1_inner_1 : List UInt8 := dkwX1_inner_1 ++ dktX1_inner_2
def dkwX1_inner_0 : List UInt8 := [42, 28, 16, 247, 159, 0, 13, 28, 3, 16, 40, 184, 0, 117, 153, 0, 7, 4, 167, 0, 4, 3, 27]
abbrev dktX1_inner_0 : List UInt8 := dkwX1_inner_0 ++ dktX1_inner_1
theorem dksX1_inner_0 : cX1_inner.data.toList.drop 0 = dktX1_inner_0 := by decide +kernel
theorem dksX1_inner_1 : cX1_inner.data.toList.drop 23 = dktX1_inner_1 := dk_seg dksX1_inner_0 23 rfl rfl
theorem dksX1_inner_2 : cX1_inner.data.toList.drop 46 = dktX1_inner_2 := dk_seg dksX1_inner_1 23 rfl rfl
theorem dksX1_inner_3 : cX1_inner.data.toList.drop 69 = dktX1_inner_3 := dk_seg dksX1_inner_2 23 rfl rfl
theorem dX1_inner_0 : decode cX1_inner 0 = .ok (.aload_n 0, 1) := dk_42 (dk_at dksX1_inner_0 0 rfl rfl)
theorem dX1_inner_1 : decode cX1_inner 1 = .ok (.iload_n 2, 1) := dk_28 (dk_at dksX1_inner_0 1 rfl rfl)
theorem dX1_inner_2 : decode cX1_inner 2 = .ok (.bipush (-9), 2) := dk_16 247 (dk_at dksX1_inner_0 2 rfl rfl)
theorem dX1_inner_4 : decode cX1_inner 4 = .ok (.if_icmp .eq 13, 3) := dk_159 0 13 (dk_at dksX1_inner_0 4 rfl rfl)
theorem dX1_inner_7 : decode cX1_inner 7 = .ok (.iload_n 2, 1) := dk_28 (dk_at dksX1_inner_0 7 rfl rfl)
theorem dX1_inner_8 : decode cX1_inner 8 = .ok (.iconst 0, 1) := dk_3 (dk_at dksX1_inner_0 8 rfl rfl)
theorem dX1_inner_9 : decode cX1_inner 9 = .ok (.bipush 40, 2) := dk_16 40 (dk_at dksX1_inner_0 9 rfl rfl)
theorem dX1_inner_11 : decode cX1_inner 11 = .ok (.invokestatic 117, 3) := dk_184 0 117 (dk_at dksX1_inner_0 11 rfl rfl)
theorem dX1_inner_14 : decode cX1_inner 14 = .ok (.ifCond .eq 7, 3) := dk_153 0 7 (dk_at dksX1_inner_0 14 rfl rfl)
theorem dX1_inner_17 : decode cX1_inner 17 = .ok (.iconst 1, 1) := dk_4 (dk_at dksX1_inner_0 17 rfl rfl)
theorem dX1_inner_18 : decode cX1_inner 18 = .ok (.goto 4, 3) := dk_167 0 4 (dk_at dksX1_inner_0 18 rfl rfl)
theorem dX1_inner_21 : decode cX1_inner 21 = .ok (.iconst 0, 1) := dk_3 (dk_at dksX1_inner_0 21 rfl rfl)
theorem dX1_inner_22 : decode cX1_inner 22 = .ok (.iload_n 1, 1) := dk_27 (dk_at dksX1_inner_0 22 rfl rfl)
theorem dX1_inner_23 : decode cX1_inner 23 = .ok (.invokevirtual 192, 3) := dk_182 0 192 (dk_at dksX1_inner_1 0 rfl rfl)
theorem dX1_inner_26 : decode cX1_inner 26 = .ok (.istore_n 3, 1) := dk_62 (dk_at dksX1_inner_1 3 rfl rfl)
theorem dX1_inner_27 : decode cX1_inner 27 = .ok (.iload_n 3, 1) := dk_29 (dk_at dksX1_inner_1 4 rfl rfl)
theorem dX1_inner_28 : decode cX1_inner 28 = .ok (.ifCond .ge 5, 3) := dk_156 0 5 (dk_at dksX1_inner_1 5 rfl rfl)
theorem dX1_inner_31 : decode cX1_inner 31 = .ok (.iload_n 3, 1) := dk_29 (dk_at dksX1_inner_1 8 rfl rfl)
theorem dX1_inner_32 : decode cX1_inner 32 = .ok (.ireturn, 1) := dk_172 (dk_at dksX1_inner_1 9 rfl rfl)
theorem dX1_inner_33 : decode cX1_inner 33 = .ok (.aload_n 0, 1) := dk_42 (dk_at dksX1_inner_1 10 rfl rfl)
theorem dX1_inner_34 : decode cX1_inner 34 = .ok (.iload_n 1, 1) := dk_27 (dk_at dksX1_inner_1 11 rfl rfl)
theorem dX1_inner_35 : decode cX1_inner 35 = .ok (.invokevirtual 217, 3) := dk_182 0 217 (dk_at dksX1_inner_1 12 rfl rfl)
theorem dX1_inner_38 : decode cX1_inner 38 = .ok (.lconst 0, 1) := dk_9 (dk_at dksX1_inner_1 15 rfl rfl)
theorem dX1_inner_39 : decode cX1_inner 39 = .ok (.lstore 4, 2) := dk_55 4 (dk_at dksX1_inner_1 16 rfl rfl)
theorem dX1_inner_41 : decode cX1_inner 41 = .ok (.iconst 0, 1) := dk_3 (dk_at dksX1_inner_1 18 rfl rfl)
theorem dX1_inner_42 : decode cX1_inner 42 = .ok (.istore 6, 2) := dk_54 6 (dk_at dksX1_inner_1 19 rfl rfl)
theorem dX1_inner_44 : decode cX1_inner 44 = .ok (.iload 6, 2) := dk_21 6 (dk_at dksX1_inner_1 21 rfl rfl)
theorem dX1_inner_46 : decode cX1_inner 46 = .ok (.bipush 40, 2) := dk_16 40 (dk_at dksX1_inner_2 0 rfl rfl)
theorem dX1_inner_48 : decode cX1_inner 48 = .ok (.if_icmp .gt 37, 3) := dk_163 0 37 (dk_at dksX1_inner_2 2 rfl rfl)
theorem dX1_inner_51 : decode cX1_inner 51 = .ok (.lload 4, 2) := dk_22 4 (dk_at dksX1_inner_2 5 rfl rfl)
theorem dX1_inner_53 : decode cX1_inner 53 = .ok (.iload_n 2, 1) := dk_28 (dk_at dksX1_inner_2 7 rfl rfl)
theorem dX1_inner_54 : decode cX1_inner 54 = .ok (.bipush (-9), 2) := dk_16 247 (dk_at dksX1_inner_2 8 rfl rfl)
theorem dX1_inner_56 : decode cX1_inner 56 = .ok (.if_icmp .eq 9, 3) := dk_159 0 9 (dk_at dksX1_inner_2 10 rfl rfl)
theorem dX1_inner_59 : decode cX1_inner 59 = .ok (.iload_n 2, 1) := dk_28 (dk_at dksX1_inner_2 13 rfl rfl)
theorem dX1_inner_60 : decode cX1_inner 60 = .ok (.iload 6, 2) := dk_21 6 (dk_at dksX1_inner_2 14 rfl rfl)
theorem dX1_inner_62 : decode cX1_inner 62 = .ok (.if_icmp .ne 13, 3) := dk_160 0 13 (dk_at dksX1_inner_2 16 rfl rfl)
theorem dX1_inner_65 : decode cX1_inner 65 = .ok (.aload_n 0, 1) := dk_42 (dk_at dksX1_inner_2 19 rfl rfl)
theorem dX1_inner_66 : decode cX1_inner 66 = .ok (.getfield 66, 3) := dk_180 0 66 (dk_at dksX1_inner_2 20 rfl rfl)
theorem dX1_inner_69 : decode cX1_inner 69 = .ok (.iload 6, 2) := dk_21 6 (dk_at dksX1_inner_3 0 rfl rfl)
theorem dX1_inner_71 : decode cX1_inner 71 = .ok (.laload, 1) := dk_47 (dk_at dksX1_inner_3 2 rfl rfl)
theorem dX1_inner_72 : decode cX1_inner 72 = .ok (.goto 4, 3) := dk_167 0 4 (dk_at dksX1_inner_3 3 rfl rfl)
theorem dX1_inner_75 : decode cX1_inner 75 = .ok (.lconst 0, 1) := dk_9 (dk_at dksX1_inner_3 6 rfl rfl)
theorem dX1_inner_76 : decode cX1_inner 76 = .ok (.ladd, 1) := dk_97 (dk_at dksX1_inner_3 7 rfl rfl)
theorem dX1_inner_77 : decode cX1_inner 77 = .ok (.lstore 4, 2) := dk_55 4 (dk_at dksX1_inner_3 8 rfl rfl)
theorem dX1_inner_79 : decode cX1_inner 79 = .ok (.iinc 6 1, 3) := dk_132 6 1 (dk_at dksX1_inner_3 10 rfl rfl)
theorem dX1_inner_82 : decode cX1_inner 82 = .ok (.goto (-38), 3) := dk_167 255 218 (dk_at dksX1_inner_3 13 rfl rfl)
theorem dX1_inner_85 : decode cX1_inner 85 = .ok (.aload_n 0, 1) := dk_42 (dk_at dksX1_inner_3 16 rfl rfl)
theorem dX1_inner_86 : decode cX1_inner 86 = .ok (.lload 4, 2) := dk_22 4 (dk_at dksX1_inner_3 17 rfl rfl)
theorem dX1_inner_88 : decode cX1_inner 88 = .ok (.iconst 1, 1) := dk_4 (dk_at dksX1_inner_3 19 rfl rfl)
theorem dX1_inner_89 : decode cX1_inner 89 = .ok (.invokevirtual 202, 3) := dk_182 0 202 (dk_at dksX1_inner_3 20 rfl rfl)
theorem dX1_inner_92 : decode cX1_inner 92 = .ok (.ireturn, 1) := dk_172 (dk_at dksX1_inner_3 23 rfl rfl)
abbrev cX1_layInner : ByteArray := prog_8_method_59_code
def yX1_layInner : MethodName := ⟨RX1, "layInner", "(I)V"⟩
def dkwX1_layInner_5 : List UInt8 := [100, 47, 97, 80, 132, 6, 1, 167, 255, 207, 132, 4, 1, 167, 255, 179, 132, 3, 255, 167, 255, 128, 177]
abbrev dktX1_layInner_5 : List UInt8 := dkwX1_layInner_5 ++ []
def dkwX1_layInner_4 : List UInt8 := [16, 41, 29, 104, 21, 6, 96, 92, 47, 42, 180, 0, 66, 16, 41, 21, 5, 4, 96, 104, 21, 6, 96, 4]
abbrev dktX1_layInner_4 : List UInt8 := dkwX1_layInner_4 ++ dktX1_layInner_5
def dkwX1_layInner_3 : List UInt8 := [54, 5, 4, 54, 6, 21, 6, 16, 40, 163, 0, 48, 21, 5, 16, 247, 159, 0, 41, 42, 180, 0, 66]
abbrev dktX1_layInner_3 : List UInt8 := dkwX1_layInner_3 ++ dktX1_layInner_4
def dkwX1_layInner_2 : List UInt8 := [167, 255, 224, 3, 54, 4, 21, 4, 42, 180, 0, 110, 162, 0, 74, 42, 27, 29, 21, 4, 182, 0, 206]
abbrev dktX1_layInner_2 : List UInt8 := dkwX1_layInner_2 ++ dktX1_layInner_3
def dkwX1_layInner_1 : List UInt8 := [180, 0, 66, 16, 41, 29, 104, 21, 4, 96, 21, 4, 154, 0, 7, 10, 167, 0, 4, 9, 80, 132, 4, 1]
abbrev dktX1_layInner_1 : List UInt8 := dkwX1_layInner_1 ++ dktX1_layInner_2
def dkwX1_layInner_0 : List UInt8 := [42, 180, 0, 29, 27, 46, 61, 28, 62, 29, 155, 0, 130, 3, 54, 4, 21, 4, 16, 40, 163, 0, 31, 42]
abbrev dktX1_layInner_0 : List UInt8 := dkwX1_layInner_0 ++ dktX1_layInner_1
theorem dksX1_layInner_0 : cX1_layInner.data.toList.drop 0 = dktX1_layInner_0 := by decide +kernel
theorem dksX1_layInner_1 : cX1_layInner.data.toList.drop 24 = dktX1_layInner_1 := dk_seg dksX1_layInner_0 24 rfl rfl
theorem dksX1_layInner_2 : cX1_layInner.data.toList.drop 48 = dktX1_layInner_2 := dk_seg dksX1_layInner_1 24 rfl rfl
theorem dksX1_layInner_3 : cX1_layInner.data.toList.drop 71 = dktX1_layInner_3 := dk_seg dksX1_layInner_2 23 rfl rfl
theorem dksX1_layInner_4 : cX1_layInner.data.toList.drop 94 = dktX1_layInner_4 := dk_seg dksX1_layInner_3 23 rfl rfl
theorem dksX1_layInner_5 : cX1_layInner.data.toList.drop 118 = dktX1_layInner_5 := dk_seg dksX1_layInner_4 24 rfl rfl
theorem dX1_layInner_0 : decode cX1_layInner 0 = .ok (.aload_n 0, 1) := dk_42 (dk_at dksX1_layInner_0 0 rfl rfl)
theorem dX1_layInner_1 : decode cX1_layInner 1 = .ok (.getfield 29, 3) := dk_180 0 29 (dk_at dksX1_layInner_0 1 rfl rfl)
theorem dX1_layInner_4 : decode cX1_layInner 4 = .ok (.iload_n 1, 1) := dk_27 (dk_at dksX1_layInner_0 4 rfl rfl)
theorem dX1_layInner_5 : decode cX1_layInner 5 = .ok (.iaload, 1) := dk_46 (dk_at dksX1_layInner_0 5 rfl rfl)
theorem dX1_layInner_6 : decode cX1_layInner 6 = .ok (.istore_n 2, 1) := dk_61 (dk_at dksX1_layInner_0 6 rfl rfl)
theorem dX1_layInner_7 : decode cX1_layInner 7 = .ok (.iload_n 2, 1) := dk_28 (dk_at dksX1_layInner_0 7 rfl rfl)
theorem dX1_layInner_8 : decode cX1_layInner 8 = .ok (.istore_n 3, 1) := dk_62 (dk_at dksX1_layInner_0 8 rfl rfl)
theorem dX1_layInner_9 : decode cX1_layInner 9 = .ok (.iload_n 3, 1) := dk_29 (dk_at dksX1_layInner_0 9 rfl rfl)
theorem dX1_layInner_10 : decode cX1_layInner 10 = .ok (.ifCond .lt 130, 3) := dk_155 0 130 (dk_at dksX1_layInner_0 10 rfl rfl)
theorem dX1_layInner_13 : decode cX1_layInner 13 = .ok (.iconst 0, 1) := dk_3 (dk_at dksX1_layInner_0 13 rfl rfl)
theorem dX1_layInner_14 : decode cX1_layInner 14 = .ok (.istore 4, 2) := dk_54 4 (dk_at dksX1_layInner_0 14 rfl rfl)
theorem dX1_layInner_16 : decode cX1_layInner 16 = .ok (.iload 4, 2) := dk_21 4 (dk_at dksX1_layInner_0 16 rfl rfl)
theorem dX1_layInner_18 : decode cX1_layInner 18 = .ok (.bipush 40, 2) := dk_16 40 (dk_at dksX1_layInner_0 18 rfl rfl)
theorem dX1_layInner_20 : decode cX1_layInner 20 = .ok (.if_icmp .gt 31, 3) := dk_163 0 31 (dk_at dksX1_layInner_0 20 rfl rfl)
theorem dX1_layInner_23 : decode cX1_layInner 23 = .ok (.aload_n 0, 1) := dk_42 (dk_at dksX1_layInner_0 23 rfl rfl)
theorem dX1_layInner_24 : decode cX1_layInner 24 = .ok (.getfield 66, 3) := dk_180 0 66 (dk_at dksX1_layInner_1 0 rfl rfl)
theorem dX1_layInner_27 : decode cX1_layInner 27 = .ok (.bipush 41, 2) := dk_16 41 (dk_at dksX1_layInner_1 3 rfl rfl)
theorem dX1_layInner_29 : decode cX1_layInner 29 = .ok (.iload_n 3, 1) := dk_29 (dk_at dksX1_layInner_1 5 rfl rfl)
theorem dX1_layInner_30 : decode cX1_layInner 30 = .ok (.imul, 1) := dk_104 (dk_at dksX1_layInner_1 6 rfl rfl)
theorem dX1_layInner_31 : decode cX1_layInner 31 = .ok (.iload 4, 2) := dk_21 4 (dk_at dksX1_layInner_1 7 rfl rfl)
theorem dX1_layInner_33 : decode cX1_layInner 33 = .ok (.iadd, 1) := dk_96 (dk_at dksX1_layInner_1 9 rfl rfl)
theorem dX1_layInner_34 : decode cX1_layInner 34 = .ok (.iload 4, 2) := dk_21 4 (dk_at dksX1_layInner_1 10 rfl rfl)
theorem dX1_layInner_36 : decode cX1_layInner 36 = .ok (.ifCond .ne 7, 3) := dk_154 0 7 (dk_at dksX1_layInner_1 12 rfl rfl)
theorem dX1_layInner_39 : decode cX1_layInner 39 = .ok (.lconst 1, 1) := dk_10 (dk_at dksX1_layInner_1 15 rfl rfl)
theorem dX1_layInner_40 : decode cX1_layInner 40 = .ok (.goto 4, 3) := dk_167 0 4 (dk_at dksX1_layInner_1 16 rfl rfl)
theorem dX1_layInner_43 : decode cX1_layInner 43 = .ok (.lconst 0, 1) := dk_9 (dk_at dksX1_layInner_1 19 rfl rfl)
theorem dX1_layInner_44 : decode cX1_layInner 44 = .ok (.lastore, 1) := dk_80 (dk_at dksX1_layInner_1 20 rfl rfl)
theorem dX1_layInner_45 : decode cX1_layInner 45 = .ok (.iinc 4 1, 3) := dk_132 4 1 (dk_at dksX1_layInner_1 21 rfl rfl)
theorem dX1_layInner_48 : decode cX1_layInner 48 = .ok (.goto (-32), 3) := dk_167 255 224 (dk_at dksX1_layInner_2 0 rfl rfl)
theorem dX1_layInner_51 : decode cX1_layInner 51 = .ok (.iconst 0, 1) := dk_3 (dk_at dksX1_layInner_2 3 rfl rfl)
theorem dX1_layInner_52 : decode cX1_layInner 52 = .ok (.istore 4, 2) := dk_54 4 (dk_at dksX1_layInner_2 4 rfl rfl)
theorem dX1_layInner_54 : decode cX1_layInner 54 = .ok (.iload 4, 2) := dk_21 4 (dk_at dksX1_layInner_2 6 rfl rfl)
theorem dX1_layInner_56 : decode cX1_layInner 56 = .ok (.aload_n 0, 1) := dk_42 (dk_at dksX1_layInner_2 8 rfl rfl)
theorem dX1_layInner_57 : decode cX1_layInner 57 = .ok (.getfield 110, 3) := dk_180 0 110 (dk_at dksX1_layInner_2 9 rfl rfl)
theorem dX1_layInner_60 : decode cX1_layInner 60 = .ok (.if_icmp .ge 74, 3) := dk_162 0 74 (dk_at dksX1_layInner_2 12 rfl rfl)
theorem dX1_layInner_63 : decode cX1_layInner 63 = .ok (.aload_n 0, 1) := dk_42 (dk_at dksX1_layInner_2 15 rfl rfl)
theorem dX1_layInner_64 : decode cX1_layInner 64 = .ok (.iload_n 1, 1) := dk_27 (dk_at dksX1_layInner_2 16 rfl rfl)
theorem dX1_layInner_65 : decode cX1_layInner 65 = .ok (.iload_n 3, 1) := dk_29 (dk_at dksX1_layInner_2 17 rfl rfl)
theorem dX1_layInner_66 : decode cX1_layInner 66 = .ok (.iload 4, 2) := dk_21 4 (dk_at dksX1_layInner_2 18 rfl rfl)
theorem dX1_layInner_68 : decode cX1_layInner 68 = .ok (.invokevirtual 206, 3) := dk_182 0 206 (dk_at dksX1_layInner_2 20 rfl rfl)
theorem dX1_layInner_71 : decode cX1_layInner 71 = .ok (.istore 5, 2) := dk_54 5 (dk_at dksX1_layInner_3 0 rfl rfl)
theorem dX1_layInner_73 : decode cX1_layInner 73 = .ok (.iconst 1, 1) := dk_4 (dk_at dksX1_layInner_3 2 rfl rfl)
theorem dX1_layInner_74 : decode cX1_layInner 74 = .ok (.istore 6, 2) := dk_54 6 (dk_at dksX1_layInner_3 3 rfl rfl)
theorem dX1_layInner_76 : decode cX1_layInner 76 = .ok (.iload 6, 2) := dk_21 6 (dk_at dksX1_layInner_3 5 rfl rfl)
theorem dX1_layInner_78 : decode cX1_layInner 78 = .ok (.bipush 40, 2) := dk_16 40 (dk_at dksX1_layInner_3 7 rfl rfl)
theorem dX1_layInner_80 : decode cX1_layInner 80 = .ok (.if_icmp .gt 48, 3) := dk_163 0 48 (dk_at dksX1_layInner_3 9 rfl rfl)
theorem dX1_layInner_83 : decode cX1_layInner 83 = .ok (.iload 5, 2) := dk_21 5 (dk_at dksX1_layInner_3 12 rfl rfl)
theorem dX1_layInner_85 : decode cX1_layInner 85 = .ok (.bipush (-9), 2) := dk_16 247 (dk_at dksX1_layInner_3 14 rfl rfl)
theorem dX1_layInner_87 : decode cX1_layInner 87 = .ok (.if_icmp .eq 41, 3) := dk_159 0 41 (dk_at dksX1_layInner_3 16 rfl rfl)
theorem dX1_layInner_90 : decode cX1_layInner 90 = .ok (.aload_n 0, 1) := dk_42 (dk_at dksX1_layInner_3 19 rfl rfl)
theorem dX1_layInner_91 : decode cX1_layInner 91 = .ok (.getfield 66, 3) := dk_180 0 66 (dk_at dksX1_layInner_3 20 rfl rfl)
theorem dX1_layInner_94 : decode cX1_layInner 94 = .ok (.bipush 41, 2) := dk_16 41 (dk_at dksX1_layInner_4 0 rfl rfl)
theorem dX1_layInner_96 : decode cX1_layInner 96 = .ok (.iload_n 3, 1) := dk_29 (dk_at dksX1_layInner_4 2 rfl rfl)
theorem dX1_layInner_97 : decode cX1_layInner 97 = .ok (.imul, 1) := dk_104 (dk_at dksX1_layInner_4 3 rfl rfl)
theorem dX1_layInner_98 : decode cX1_layInner 98 = .ok (.iload 6, 2) := dk_21 6 (dk_at dksX1_layInner_4 4 rfl rfl)
theorem dX1_layInner_100 : decode cX1_layInner 100 = .ok (.iadd, 1) := dk_96 (dk_at dksX1_layInner_4 6 rfl rfl)
theorem dX1_layInner_101 : decode cX1_layInner 101 = .ok (.dup2, 1) := dk_92 (dk_at dksX1_layInner_4 7 rfl rfl)
theorem dX1_layInner_102 : decode cX1_layInner 102 = .ok (.laload, 1) := dk_47 (dk_at dksX1_layInner_4 8 rfl rfl)
theorem dX1_layInner_103 : decode cX1_layInner 103 = .ok (.aload_n 0, 1) := dk_42 (dk_at dksX1_layInner_4 9 rfl rfl)
theorem dX1_layInner_104 : decode cX1_layInner 104 = .ok (.getfield 66, 3) := dk_180 0 66 (dk_at dksX1_layInner_4 10 rfl rfl)
theorem dX1_layInner_107 : decode cX1_layInner 107 = .ok (.bipush 41, 2) := dk_16 41 (dk_at dksX1_layInner_4 13 rfl rfl)
theorem dX1_layInner_109 : decode cX1_layInner 109 = .ok (.iload 5, 2) := dk_21 5 (dk_at dksX1_layInner_4 15 rfl rfl)
theorem dX1_layInner_111 : decode cX1_layInner 111 = .ok (.iconst 1, 1) := dk_4 (dk_at dksX1_layInner_4 17 rfl rfl)
theorem dX1_layInner_112 : decode cX1_layInner 112 = .ok (.iadd, 1) := dk_96 (dk_at dksX1_layInner_4 18 rfl rfl)
theorem dX1_layInner_113 : decode cX1_layInner 113 = .ok (.imul, 1) := dk_104 (dk_at dksX1_layInner_4 19 rfl rfl)
theorem dX1_layInner_114 : decode cX1_layInner 114 = .ok (.iload 6, 2) := dk_21 6 (dk_at dksX1_layInner_4 20 rfl rfl)
theorem dX1_layInner_116 : decode cX1_layInner 116 = .ok (.iadd, 1) := dk_96 (dk_at dksX1_layInner_4 22 rfl rfl)
theorem dX1_layInner_117 : decode cX1_layInner 117 = .ok (.iconst 1, 1) := dk_4 (dk_at dksX1_layInner_4 23 rfl rfl)
theorem dX1_layInner_118 : decode cX1_layInner 118 = .ok (.isub, 1) := dk_100 (dk_at dksX1_layInner_5 0 rfl rfl)
theorem dX1_layInner_119 : decode cX1_layInner 119 = .ok (.laload, 1) := dk_47 (dk_at dksX1_layInner_5 1 rfl rfl)
theorem dX1_layInner_120 : decode cX1_layInner 120 = .ok (.ladd, 1) := dk_97 (dk_at dksX1_layInner_5 2 rfl rfl)
theorem dX1_layInner_121 : decode cX1_layInner 121 = .ok (.lastore, 1) := dk_80 (dk_at dksX1_layInner_5 3 rfl rfl)
theorem dX1_layInner_122 : decode cX1_layInner 122 = .ok (.iinc 6 1, 3) := dk_132 6 1 (dk_at dksX1_layInner_5 4 rfl rfl)
theorem dX1_layInner_125 : decode cX1_layInner 125 = .ok (.goto (-49), 3) := dk_167 255 207 (dk_at dksX1_layInner_5 7 rfl rfl)
theorem dX1_layInner_128 : decode cX1_layInner 128 = .ok (.iinc 4 1, 3) := dk_132 4 1 (dk_at dksX1_layInner_5 10 rfl rfl)
theorem dX1_layInner_131 : decode cX1_layInner 131 = .ok (.goto (-77), 3) := dk_167 255 179 (dk_at dksX1_layInner_5 13 rfl rfl)
theorem dX1_layInner_134 : decode cX1_layInner 134 = .ok (.iinc 3 (-1), 3) := dk_132 3 255 (dk_at dksX1_layInner_5 16 rfl rfl)
theorem dX1_layInner_137 : decode cX1_layInner 137 = .ok (.goto (-128), 3) := dk_167 255 128 (dk_at dksX1_layInner_5 19 rfl rfl)
theorem dX1_layInner_140 : decode cX1_layInner 140 = .ok (.return_, 1) := dk_177 (dk_at dksX1_layInner_5 22 rfl rfl)
abbrev cX1_rank : ByteArray := prog_8_method_61_code
def yX1_rank : MethodName := ⟨RX1, "rank", "(II)I"⟩
def dkwX1_rank_6 : List UInt8 := [4, 96, 54, 6, 132, 7, 1, 167, 255, 134, 42, 22, 4, 4, 182, 0, 202, 172]
abbrev dktX1_rank_6 : List UInt8 := dkwX1_rank_6 ++ []
def dkwX1_rank_5 : List UInt8 := [42, 28, 21, 7, 182, 0, 148, 182, 0, 206, 54, 9, 21, 9, 16, 247, 160, 0, 6, 16, 247, 172, 21, 9]
abbrev dktX1_rank_5 : List UInt8 := dkwX1_rank_5 ++ dktX1_rank_6
def dkwX1_rank_4 : List UInt8 := [16, 41, 21, 10, 4, 96, 104, 21, 8, 96, 47, 97, 55, 4, 132, 9, 1, 167, 255, 199, 42, 27, 21, 6]
abbrev dktX1_rank_4 : List UInt8 := dkwX1_rank_4 ++ dktX1_rank_5
def dkwX1_rank_3 : List UInt8 := [21, 9, 182, 0, 206, 54, 10, 22, 4, 21, 10, 16, 247, 160, 0, 7, 9, 167, 0, 18, 42, 180, 0, 66]
abbrev dktX1_rank_3 : List UInt8 := dkwX1_rank_3 ++ dktX1_rank_4
def dkwX1_rank_2 : List UInt8 := [21, 7, 100, 54, 8, 3, 54, 9, 21, 9, 42, 28, 21, 7, 182, 0, 148, 162, 0, 51, 42, 27, 21, 6]
abbrev dktX1_rank_2 : List UInt8 := dkwX1_rank_2 ++ dktX1_rank_3
def dkwX1_rank_1 : List UInt8 := [54, 6, 3, 54, 7, 21, 7, 42, 180, 0, 29, 28, 46, 162, 0, 117, 42, 180, 0, 29, 28, 46, 4, 100]
abbrev dktX1_rank_1 : List UInt8 := dkwX1_rank_1 ++ dktX1_rank_2
def dkwX1_rank_0 : List UInt8 := [42, 4, 27, 28, 182, 0, 188, 62, 29, 156, 0, 5, 29, 172, 42, 27, 182, 0, 217, 9, 55, 4, 3]
abbrev dktX1_rank_0 : List UInt8 := dkwX1_rank_0 ++ dktX1_rank_1
theorem dksX1_rank_0 : cX1_rank.data.toList.drop 0 = dktX1_rank_0 := by decide +kernel
theorem dksX1_rank_1 : cX1_rank.data.toList.drop 23 = dktX1_rank_1 := dk_seg dksX1_rank_0 23 rfl rfl
theorem dksX1_rank_2 : cX1_rank.data.toList.drop 47 = dktX1_rank_2 := dk_seg dksX1_rank_1 24 rfl rfl
theorem dksX1_rank_3 : cX1_rank.data.toList.drop 71 = dktX1_rank_3 := dk_seg dksX1_rank_2 24 rfl rfl
theorem dksX1_rank_4 : cX1_rank.data.toList.drop 95 = dktX1_rank_4 := dk_seg dksX1_rank_3 24 rfl rfl
theorem dksX1_rank_5 : cX1_rank.data.toList.drop 119 = dktX1_rank_5 := dk_seg dksX1_rank_4 24 rfl rfl
theorem dksX1_rank_6 : cX1_rank.data.toList.drop 143 = dktX1_rank_6 := dk_seg dksX1_rank_5 24 rfl rfl
theorem dX1_rank_0 : decode cX1_rank 0 = .ok (.aload_n 0, 1) := dk_42 (dk_at dksX1_rank_0 0 rfl rfl)
theorem dX1_rank_1 : decode cX1_rank 1 = .ok (.iconst 1, 1) := dk_4 (dk_at dksX1_rank_0 1 rfl rfl)
theorem dX1_rank_2 : decode cX1_rank 2 = .ok (.iload_n 1, 1) := dk_27 (dk_at dksX1_rank_0 2 rfl rfl)
theorem dX1_rank_3 : decode cX1_rank 3 = .ok (.iload_n 2, 1) := dk_28 (dk_at dksX1_rank_0 3 rfl rfl)
theorem dX1_rank_4 : decode cX1_rank 4 = .ok (.invokevirtual 188, 3) := dk_182 0 188 (dk_at dksX1_rank_0 4 rfl rfl)
theorem dX1_rank_7 : decode cX1_rank 7 = .ok (.istore_n 3, 1) := dk_62 (dk_at dksX1_rank_0 7 rfl rfl)
theorem dX1_rank_8 : decode cX1_rank 8 = .ok (.iload_n 3, 1) := dk_29 (dk_at dksX1_rank_0 8 rfl rfl)
theorem dX1_rank_9 : decode cX1_rank 9 = .ok (.ifCond .ge 5, 3) := dk_156 0 5 (dk_at dksX1_rank_0 9 rfl rfl)
theorem dX1_rank_12 : decode cX1_rank 12 = .ok (.iload_n 3, 1) := dk_29 (dk_at dksX1_rank_0 12 rfl rfl)
theorem dX1_rank_13 : decode cX1_rank 13 = .ok (.ireturn, 1) := dk_172 (dk_at dksX1_rank_0 13 rfl rfl)
theorem dX1_rank_14 : decode cX1_rank 14 = .ok (.aload_n 0, 1) := dk_42 (dk_at dksX1_rank_0 14 rfl rfl)
theorem dX1_rank_15 : decode cX1_rank 15 = .ok (.iload_n 1, 1) := dk_27 (dk_at dksX1_rank_0 15 rfl rfl)
theorem dX1_rank_16 : decode cX1_rank 16 = .ok (.invokevirtual 217, 3) := dk_182 0 217 (dk_at dksX1_rank_0 16 rfl rfl)
theorem dX1_rank_19 : decode cX1_rank 19 = .ok (.lconst 0, 1) := dk_9 (dk_at dksX1_rank_0 19 rfl rfl)
theorem dX1_rank_20 : decode cX1_rank 20 = .ok (.lstore 4, 2) := dk_55 4 (dk_at dksX1_rank_0 20 rfl rfl)
theorem dX1_rank_22 : decode cX1_rank 22 = .ok (.iconst 0, 1) := dk_3 (dk_at dksX1_rank_0 22 rfl rfl)
theorem dX1_rank_23 : decode cX1_rank 23 = .ok (.istore 6, 2) := dk_54 6 (dk_at dksX1_rank_1 0 rfl rfl)
theorem dX1_rank_25 : decode cX1_rank 25 = .ok (.iconst 0, 1) := dk_3 (dk_at dksX1_rank_1 2 rfl rfl)
theorem dX1_rank_26 : decode cX1_rank 26 = .ok (.istore 7, 2) := dk_54 7 (dk_at dksX1_rank_1 3 rfl rfl)
theorem dX1_rank_28 : decode cX1_rank 28 = .ok (.iload 7, 2) := dk_21 7 (dk_at dksX1_rank_1 5 rfl rfl)
theorem dX1_rank_30 : decode cX1_rank 30 = .ok (.aload_n 0, 1) := dk_42 (dk_at dksX1_rank_1 7 rfl rfl)
theorem dX1_rank_31 : decode cX1_rank 31 = .ok (.getfield 29, 3) := dk_180 0 29 (dk_at dksX1_rank_1 8 rfl rfl)
theorem dX1_rank_34 : decode cX1_rank 34 = .ok (.iload_n 2, 1) := dk_28 (dk_at dksX1_rank_1 11 rfl rfl)
theorem dX1_rank_35 : decode cX1_rank 35 = .ok (.iaload, 1) := dk_46 (dk_at dksX1_rank_1 12 rfl rfl)
theorem dX1_rank_36 : decode cX1_rank 36 = .ok (.if_icmp .ge 117, 3) := dk_162 0 117 (dk_at dksX1_rank_1 13 rfl rfl)
theorem dX1_rank_39 : decode cX1_rank 39 = .ok (.aload_n 0, 1) := dk_42 (dk_at dksX1_rank_1 16 rfl rfl)
theorem dX1_rank_40 : decode cX1_rank 40 = .ok (.getfield 29, 3) := dk_180 0 29 (dk_at dksX1_rank_1 17 rfl rfl)
theorem dX1_rank_43 : decode cX1_rank 43 = .ok (.iload_n 2, 1) := dk_28 (dk_at dksX1_rank_1 20 rfl rfl)
theorem dX1_rank_44 : decode cX1_rank 44 = .ok (.iaload, 1) := dk_46 (dk_at dksX1_rank_1 21 rfl rfl)
theorem dX1_rank_45 : decode cX1_rank 45 = .ok (.iconst 1, 1) := dk_4 (dk_at dksX1_rank_1 22 rfl rfl)
theorem dX1_rank_46 : decode cX1_rank 46 = .ok (.isub, 1) := dk_100 (dk_at dksX1_rank_1 23 rfl rfl)
theorem dX1_rank_47 : decode cX1_rank 47 = .ok (.iload 7, 2) := dk_21 7 (dk_at dksX1_rank_2 0 rfl rfl)
theorem dX1_rank_49 : decode cX1_rank 49 = .ok (.isub, 1) := dk_100 (dk_at dksX1_rank_2 2 rfl rfl)
theorem dX1_rank_50 : decode cX1_rank 50 = .ok (.istore 8, 2) := dk_54 8 (dk_at dksX1_rank_2 3 rfl rfl)
theorem dX1_rank_52 : decode cX1_rank 52 = .ok (.iconst 0, 1) := dk_3 (dk_at dksX1_rank_2 5 rfl rfl)
theorem dX1_rank_53 : decode cX1_rank 53 = .ok (.istore 9, 2) := dk_54 9 (dk_at dksX1_rank_2 6 rfl rfl)
theorem dX1_rank_55 : decode cX1_rank 55 = .ok (.iload 9, 2) := dk_21 9 (dk_at dksX1_rank_2 8 rfl rfl)
theorem dX1_rank_57 : decode cX1_rank 57 = .ok (.aload_n 0, 1) := dk_42 (dk_at dksX1_rank_2 10 rfl rfl)
theorem dX1_rank_58 : decode cX1_rank 58 = .ok (.iload_n 2, 1) := dk_28 (dk_at dksX1_rank_2 11 rfl rfl)
theorem dX1_rank_59 : decode cX1_rank 59 = .ok (.iload 7, 2) := dk_21 7 (dk_at dksX1_rank_2 12 rfl rfl)
theorem dX1_rank_61 : decode cX1_rank 61 = .ok (.invokevirtual 148, 3) := dk_182 0 148 (dk_at dksX1_rank_2 14 rfl rfl)
theorem dX1_rank_64 : decode cX1_rank 64 = .ok (.if_icmp .ge 51, 3) := dk_162 0 51 (dk_at dksX1_rank_2 17 rfl rfl)
theorem dX1_rank_67 : decode cX1_rank 67 = .ok (.aload_n 0, 1) := dk_42 (dk_at dksX1_rank_2 20 rfl rfl)
theorem dX1_rank_68 : decode cX1_rank 68 = .ok (.iload_n 1, 1) := dk_27 (dk_at dksX1_rank_2 21 rfl rfl)
theorem dX1_rank_69 : decode cX1_rank 69 = .ok (.iload 6, 2) := dk_21 6 (dk_at dksX1_rank_2 22 rfl rfl)
theorem dX1_rank_71 : decode cX1_rank 71 = .ok (.iload 9, 2) := dk_21 9 (dk_at dksX1_rank_3 0 rfl rfl)
theorem dX1_rank_73 : decode cX1_rank 73 = .ok (.invokevirtual 206, 3) := dk_182 0 206 (dk_at dksX1_rank_3 2 rfl rfl)
theorem dX1_rank_76 : decode cX1_rank 76 = .ok (.istore 10, 2) := dk_54 10 (dk_at dksX1_rank_3 5 rfl rfl)
theorem dX1_rank_78 : decode cX1_rank 78 = .ok (.lload 4, 2) := dk_22 4 (dk_at dksX1_rank_3 7 rfl rfl)
theorem dX1_rank_80 : decode cX1_rank 80 = .ok (.iload 10, 2) := dk_21 10 (dk_at dksX1_rank_3 9 rfl rfl)
theorem dX1_rank_82 : decode cX1_rank 82 = .ok (.bipush (-9), 2) := dk_16 247 (dk_at dksX1_rank_3 11 rfl rfl)
theorem dX1_rank_84 : decode cX1_rank 84 = .ok (.if_icmp .ne 7, 3) := dk_160 0 7 (dk_at dksX1_rank_3 13 rfl rfl)
theorem dX1_rank_87 : decode cX1_rank 87 = .ok (.lconst 0, 1) := dk_9 (dk_at dksX1_rank_3 16 rfl rfl)
theorem dX1_rank_88 : decode cX1_rank 88 = .ok (.goto 18, 3) := dk_167 0 18 (dk_at dksX1_rank_3 17 rfl rfl)
theorem dX1_rank_91 : decode cX1_rank 91 = .ok (.aload_n 0, 1) := dk_42 (dk_at dksX1_rank_3 20 rfl rfl)
theorem dX1_rank_92 : decode cX1_rank 92 = .ok (.getfield 66, 3) := dk_180 0 66 (dk_at dksX1_rank_3 21 rfl rfl)
theorem dX1_rank_95 : decode cX1_rank 95 = .ok (.bipush 41, 2) := dk_16 41 (dk_at dksX1_rank_4 0 rfl rfl)
theorem dX1_rank_97 : decode cX1_rank 97 = .ok (.iload 10, 2) := dk_21 10 (dk_at dksX1_rank_4 2 rfl rfl)
theorem dX1_rank_99 : decode cX1_rank 99 = .ok (.iconst 1, 1) := dk_4 (dk_at dksX1_rank_4 4 rfl rfl)
theorem dX1_rank_100 : decode cX1_rank 100 = .ok (.iadd, 1) := dk_96 (dk_at dksX1_rank_4 5 rfl rfl)
theorem dX1_rank_101 : decode cX1_rank 101 = .ok (.imul, 1) := dk_104 (dk_at dksX1_rank_4 6 rfl rfl)
theorem dX1_rank_102 : decode cX1_rank 102 = .ok (.iload 8, 2) := dk_21 8 (dk_at dksX1_rank_4 7 rfl rfl)
theorem dX1_rank_104 : decode cX1_rank 104 = .ok (.iadd, 1) := dk_96 (dk_at dksX1_rank_4 9 rfl rfl)
theorem dX1_rank_105 : decode cX1_rank 105 = .ok (.laload, 1) := dk_47 (dk_at dksX1_rank_4 10 rfl rfl)
theorem dX1_rank_106 : decode cX1_rank 106 = .ok (.ladd, 1) := dk_97 (dk_at dksX1_rank_4 11 rfl rfl)
theorem dX1_rank_107 : decode cX1_rank 107 = .ok (.lstore 4, 2) := dk_55 4 (dk_at dksX1_rank_4 12 rfl rfl)
theorem dX1_rank_109 : decode cX1_rank 109 = .ok (.iinc 9 1, 3) := dk_132 9 1 (dk_at dksX1_rank_4 14 rfl rfl)
theorem dX1_rank_112 : decode cX1_rank 112 = .ok (.goto (-57), 3) := dk_167 255 199 (dk_at dksX1_rank_4 17 rfl rfl)
theorem dX1_rank_115 : decode cX1_rank 115 = .ok (.aload_n 0, 1) := dk_42 (dk_at dksX1_rank_4 20 rfl rfl)
theorem dX1_rank_116 : decode cX1_rank 116 = .ok (.iload_n 1, 1) := dk_27 (dk_at dksX1_rank_4 21 rfl rfl)
theorem dX1_rank_117 : decode cX1_rank 117 = .ok (.iload 6, 2) := dk_21 6 (dk_at dksX1_rank_4 22 rfl rfl)
theorem dX1_rank_119 : decode cX1_rank 119 = .ok (.aload_n 0, 1) := dk_42 (dk_at dksX1_rank_5 0 rfl rfl)
theorem dX1_rank_120 : decode cX1_rank 120 = .ok (.iload_n 2, 1) := dk_28 (dk_at dksX1_rank_5 1 rfl rfl)
theorem dX1_rank_121 : decode cX1_rank 121 = .ok (.iload 7, 2) := dk_21 7 (dk_at dksX1_rank_5 2 rfl rfl)
theorem dX1_rank_123 : decode cX1_rank 123 = .ok (.invokevirtual 148, 3) := dk_182 0 148 (dk_at dksX1_rank_5 4 rfl rfl)
theorem dX1_rank_126 : decode cX1_rank 126 = .ok (.invokevirtual 206, 3) := dk_182 0 206 (dk_at dksX1_rank_5 7 rfl rfl)
theorem dX1_rank_129 : decode cX1_rank 129 = .ok (.istore 9, 2) := dk_54 9 (dk_at dksX1_rank_5 10 rfl rfl)
theorem dX1_rank_131 : decode cX1_rank 131 = .ok (.iload 9, 2) := dk_21 9 (dk_at dksX1_rank_5 12 rfl rfl)
theorem dX1_rank_133 : decode cX1_rank 133 = .ok (.bipush (-9), 2) := dk_16 247 (dk_at dksX1_rank_5 14 rfl rfl)
theorem dX1_rank_135 : decode cX1_rank 135 = .ok (.if_icmp .ne 6, 3) := dk_160 0 6 (dk_at dksX1_rank_5 16 rfl rfl)
theorem dX1_rank_138 : decode cX1_rank 138 = .ok (.bipush (-9), 2) := dk_16 247 (dk_at dksX1_rank_5 19 rfl rfl)
theorem dX1_rank_140 : decode cX1_rank 140 = .ok (.ireturn, 1) := dk_172 (dk_at dksX1_rank_5 21 rfl rfl)
theorem dX1_rank_141 : decode cX1_rank 141 = .ok (.iload 9, 2) := dk_21 9 (dk_at dksX1_rank_5 22 rfl rfl)
theorem dX1_rank_143 : decode cX1_rank 143 = .ok (.iconst 1, 1) := dk_4 (dk_at dksX1_rank_6 0 rfl rfl)
theorem dX1_rank_144 : decode cX1_rank 144 = .ok (.iadd, 1) := dk_96 (dk_at dksX1_rank_6 1 rfl rfl)
theorem dX1_rank_145 : decode cX1_rank 145 = .ok (.istore 6, 2) := dk_54 6 (dk_at dksX1_rank_6 2 rfl rfl)
theorem dX1_rank_147 : decode cX1_rank 147 = .ok (.iinc 7 1, 3) := dk_132 7 1 (dk_at dksX1_rank_6 4 rfl rfl)
theorem dX1_rank_150 : decode cX1_rank 150 = .ok (.goto (-122), 3) := dk_167 255 134 (dk_at dksX1_rank_6 7 rfl rfl)
theorem dX1_rank_153 : decode cX1_rank 153 = .ok (.aload_n 0, 1) := dk_42 (dk_at dksX1_rank_6 10 rfl rfl)
theorem dX1_rank_154 : decode cX1_rank 154 = .ok (.lload 4, 2) := dk_22 4 (dk_at dksX1_rank_6 11 rfl rfl)
theorem dX1_rank_156 : decode cX1_rank 156 = .ok (.iconst 1, 1) := dk_4 (dk_at dksX1_rank_6 13 rfl rfl)
theorem dX1_rank_157 : decode cX1_rank 157 = .ok (.invokevirtual 202, 3) := dk_182 0 202 (dk_at dksX1_rank_6 14 rfl rfl)
theorem dX1_rank_160 : decode cX1_rank 160 = .ok (.ireturn, 1) := dk_172 (dk_at dksX1_rank_6 17 rfl rfl)
abbrev cX1_byRank : ByteArray := prog_8_method_62_code
def yX1_byRank : MethodName := ⟨RX1, "byRank", "(IIII)I"⟩
def dkwX1_byRank_7 : List UInt8 := [89, 180, 0, 151, 4, 96, 181, 0, 151, 167, 255, 156, 42, 21, 4, 182, 0, 214, 28, 172]
abbrev dktX1_byRank_7 : List UInt8 := dkwX1_byRank_7 ++ []
def dkwX1_byRank_6 : List UInt8 := [27, 21, 8, 21, 9, 182, 0, 206, 4, 96, 54, 8, 42, 180, 0, 44, 42, 180, 0, 151, 21, 9, 79, 42]
abbrev dktX1_byRank_6 : List UInt8 := dkwX1_byRank_6 ++ dktX1_byRank_7
def dkwX1_byRank_5 : List UInt8 := [132, 9, 1, 42, 27, 21, 8, 21, 9, 28, 42, 180, 0, 151, 100, 182, 0, 220, 55, 10, 167, 255, 221, 42]
abbrev dktX1_byRank_5 : List UInt8 := dkwX1_byRank_5 ++ dktX1_byRank_6
def dkwX1_byRank_4 : List UInt8 := [180, 0, 151, 100, 182, 0, 220, 55, 10, 22, 6, 22, 10, 148, 155, 0, 33, 22, 6, 22, 10, 101, 55, 6]
abbrev dktX1_byRank_4 : List UInt8 := dkwX1_byRank_4 ++ dktX1_byRank_5
def dkwX1_byRank_3 : List UInt8 := [181, 0, 151, 42, 180, 0, 151, 28, 162, 0, 98, 3, 54, 9, 42, 27, 21, 8, 21, 9, 28, 42]
abbrev dktX1_byRank_3 : List UInt8 := dkwX1_byRank_3 ++ dktX1_byRank_4
def dkwX1_byRank_2 : List UInt8 := [133, 42, 180, 0, 66, 28, 47, 148, 155, 0, 6, 16, 247, 172, 29, 133, 55, 6, 3, 54, 8, 42, 3]
abbrev dktX1_byRank_2 : List UInt8 := dkwX1_byRank_2 ++ dktX1_byRank_3
def dkwX1_byRank_1 : List UInt8 := [167, 0, 4, 3, 27, 182, 0, 192, 54, 5, 21, 5, 156, 0, 6, 21, 5, 172, 42, 27, 182, 0, 217, 29]
abbrev dktX1_byRank_1 : List UInt8 := dkwX1_byRank_1 ++ dktX1_byRank_2
def dkwX1_byRank_0 : List UInt8 := [42, 28, 3, 16, 40, 184, 0, 117, 153, 0, 19, 29, 155, 0, 15, 21, 4, 184, 0, 130, 153, 0, 7, 4]
abbrev dktX1_byRank_0 : List UInt8 := dkwX1_byRank_0 ++ dktX1_byRank_1
theorem dksX1_byRank_0 : cX1_byRank.data.toList.drop 0 = dktX1_byRank_0 := by decide +kernel
theorem dksX1_byRank_1 : cX1_byRank.data.toList.drop 24 = dktX1_byRank_1 := dk_seg dksX1_byRank_0 24 rfl rfl
theorem dksX1_byRank_2 : cX1_byRank.data.toList.drop 48 = dktX1_byRank_2 := dk_seg dksX1_byRank_1 24 rfl rfl
theorem dksX1_byRank_3 : cX1_byRank.data.toList.drop 71 = dktX1_byRank_3 := dk_seg dksX1_byRank_2 23 rfl rfl
theorem dksX1_byRank_4 : cX1_byRank.data.toList.drop 93 = dktX1_byRank_4 := dk_seg dksX1_byRank_3 22 rfl rfl
theorem dksX1_byRank_5 : cX1_byRank.data.toList.drop 117 = dktX1_byRank_5 := dk_seg dksX1_byRank_4 24 rfl rfl
theorem dksX1_byRank_6 : cX1_byRank.data.toList.drop 141 = dktX1_byRank_6 := dk_seg dksX1_byRank_5 24 rfl rfl
theorem dksX1_byRank_7 : cX1_byRank.data.toList.drop 165 = dktX1_byRank_7 := dk_seg dksX1_byRank_6 24 rfl rfl
theorem dX1_byRank_0 : decode cX1_byRank 0 = .ok (.aload_n 0, 1) := dk_42 (dk_at dksX1_byRank_0 0 rfl rfl)
theorem dX1_byRank_1 : decode cX1_byRank 1 = .ok (.iload_n 2, 1) := dk_28 (dk_at dksX1_byRank_0 1 rfl rfl)
theorem dX1_byRank_2 : decode cX1_byRank 2 = .ok (.iconst 0, 1) := dk_3 (dk_at dksX1_byRank_0 2 rfl rfl)
theorem dX1_byRank_3 : decode cX1_byRank 3 = .ok (.bipush 40, 2) := dk_16 40 (dk_at dksX1_byRank_0 3 rfl rfl)
theorem dX1_byRank_5 : decode cX1_byRank 5 = .ok (.invokestatic 117, 3) := dk_184 0 117 (dk_at dksX1_byRank_0 5 rfl rfl)
theorem dX1_byRank_8 : decode cX1_byRank 8 = .ok (.ifCond .eq 19, 3) := dk_153 0 19 (dk_at dksX1_byRank_0 8 rfl rfl)
theorem dX1_byRank_11 : decode cX1_byRank 11 = .ok (.iload_n 3, 1) := dk_29 (dk_at dksX1_byRank_0 11 rfl rfl)
theorem dX1_byRank_12 : decode cX1_byRank 12 = .ok (.ifCond .lt 15, 3) := dk_155 0 15 (dk_at dksX1_byRank_0 12 rfl rfl)
theorem dX1_byRank_15 : decode cX1_byRank 15 = .ok (.iload 4, 2) := dk_21 4 (dk_at dksX1_byRank_0 15 rfl rfl)
theorem dX1_byRank_17 : decode cX1_byRank 17 = .ok (.invokestatic 130, 3) := dk_184 0 130 (dk_at dksX1_byRank_0 17 rfl rfl)
theorem dX1_byRank_20 : decode cX1_byRank 20 = .ok (.ifCond .eq 7, 3) := dk_153 0 7 (dk_at dksX1_byRank_0 20 rfl rfl)
theorem dX1_byRank_23 : decode cX1_byRank 23 = .ok (.iconst 1, 1) := dk_4 (dk_at dksX1_byRank_0 23 rfl rfl)
theorem dX1_byRank_24 : decode cX1_byRank 24 = .ok (.goto 4, 3) := dk_167 0 4 (dk_at dksX1_byRank_1 0 rfl rfl)
theorem dX1_byRank_27 : decode cX1_byRank 27 = .ok (.iconst 0, 1) := dk_3 (dk_at dksX1_byRank_1 3 rfl rfl)
theorem dX1_byRank_28 : decode cX1_byRank 28 = .ok (.iload_n 1, 1) := dk_27 (dk_at dksX1_byRank_1 4 rfl rfl)
theorem dX1_byRank_29 : decode cX1_byRank 29 = .ok (.invokevirtual 192, 3) := dk_182 0 192 (dk_at dksX1_byRank_1 5 rfl rfl)
theorem dX1_byRank_32 : decode cX1_byRank 32 = .ok (.istore 5, 2) := dk_54 5 (dk_at dksX1_byRank_1 8 rfl rfl)
theorem dX1_byRank_34 : decode cX1_byRank 34 = .ok (.iload 5, 2) := dk_21 5 (dk_at dksX1_byRank_1 10 rfl rfl)
theorem dX1_byRank_36 : decode cX1_byRank 36 = .ok (.ifCond .ge 6, 3) := dk_156 0 6 (dk_at dksX1_byRank_1 12 rfl rfl)
theorem dX1_byRank_39 : decode cX1_byRank 39 = .ok (.iload 5, 2) := dk_21 5 (dk_at dksX1_byRank_1 15 rfl rfl)
theorem dX1_byRank_41 : decode cX1_byRank 41 = .ok (.ireturn, 1) := dk_172 (dk_at dksX1_byRank_1 17 rfl rfl)
theorem dX1_byRank_42 : decode cX1_byRank 42 = .ok (.aload_n 0, 1) := dk_42 (dk_at dksX1_byRank_1 18 rfl rfl)
theorem dX1_byRank_43 : decode cX1_byRank 43 = .ok (.iload_n 1, 1) := dk_27 (dk_at dksX1_byRank_1 19 rfl rfl)
theorem dX1_byRank_44 : decode cX1_byRank 44 = .ok (.invokevirtual 217, 3) := dk_182 0 217 (dk_at dksX1_byRank_1 20 rfl rfl)
theorem dX1_byRank_47 : decode cX1_byRank 47 = .ok (.iload_n 3, 1) := dk_29 (dk_at dksX1_byRank_1 23 rfl rfl)
theorem dX1_byRank_48 : decode cX1_byRank 48 = .ok (.i2l, 1) := dk_133 (dk_at dksX1_byRank_2 0 rfl rfl)
theorem dX1_byRank_49 : decode cX1_byRank 49 = .ok (.aload_n 0, 1) := dk_42 (dk_at dksX1_byRank_2 1 rfl rfl)
theorem dX1_byRank_50 : decode cX1_byRank 50 = .ok (.getfield 66, 3) := dk_180 0 66 (dk_at dksX1_byRank_2 2 rfl rfl)
theorem dX1_byRank_53 : decode cX1_byRank 53 = .ok (.iload_n 2, 1) := dk_28 (dk_at dksX1_byRank_2 5 rfl rfl)
theorem dX1_byRank_54 : decode cX1_byRank 54 = .ok (.laload, 1) := dk_47 (dk_at dksX1_byRank_2 6 rfl rfl)
theorem dX1_byRank_55 : decode cX1_byRank 55 = .ok (.lcmp, 1) := dk_148 (dk_at dksX1_byRank_2 7 rfl rfl)
theorem dX1_byRank_56 : decode cX1_byRank 56 = .ok (.ifCond .lt 6, 3) := dk_155 0 6 (dk_at dksX1_byRank_2 8 rfl rfl)
theorem dX1_byRank_59 : decode cX1_byRank 59 = .ok (.bipush (-9), 2) := dk_16 247 (dk_at dksX1_byRank_2 11 rfl rfl)
theorem dX1_byRank_61 : decode cX1_byRank 61 = .ok (.ireturn, 1) := dk_172 (dk_at dksX1_byRank_2 13 rfl rfl)
theorem dX1_byRank_62 : decode cX1_byRank 62 = .ok (.iload_n 3, 1) := dk_29 (dk_at dksX1_byRank_2 14 rfl rfl)
theorem dX1_byRank_63 : decode cX1_byRank 63 = .ok (.i2l, 1) := dk_133 (dk_at dksX1_byRank_2 15 rfl rfl)
theorem dX1_byRank_64 : decode cX1_byRank 64 = .ok (.lstore 6, 2) := dk_55 6 (dk_at dksX1_byRank_2 16 rfl rfl)
theorem dX1_byRank_66 : decode cX1_byRank 66 = .ok (.iconst 0, 1) := dk_3 (dk_at dksX1_byRank_2 18 rfl rfl)
theorem dX1_byRank_67 : decode cX1_byRank 67 = .ok (.istore 8, 2) := dk_54 8 (dk_at dksX1_byRank_2 19 rfl rfl)
theorem dX1_byRank_69 : decode cX1_byRank 69 = .ok (.aload_n 0, 1) := dk_42 (dk_at dksX1_byRank_2 21 rfl rfl)
theorem dX1_byRank_70 : decode cX1_byRank 70 = .ok (.iconst 0, 1) := dk_3 (dk_at dksX1_byRank_2 22 rfl rfl)
theorem dX1_byRank_71 : decode cX1_byRank 71 = .ok (.putfield 151, 3) := dk_181 0 151 (dk_at dksX1_byRank_3 0 rfl rfl)
theorem dX1_byRank_74 : decode cX1_byRank 74 = .ok (.aload_n 0, 1) := dk_42 (dk_at dksX1_byRank_3 3 rfl rfl)
theorem dX1_byRank_75 : decode cX1_byRank 75 = .ok (.getfield 151, 3) := dk_180 0 151 (dk_at dksX1_byRank_3 4 rfl rfl)
theorem dX1_byRank_78 : decode cX1_byRank 78 = .ok (.iload_n 2, 1) := dk_28 (dk_at dksX1_byRank_3 7 rfl rfl)
theorem dX1_byRank_79 : decode cX1_byRank 79 = .ok (.if_icmp .ge 98, 3) := dk_162 0 98 (dk_at dksX1_byRank_3 8 rfl rfl)
theorem dX1_byRank_82 : decode cX1_byRank 82 = .ok (.iconst 0, 1) := dk_3 (dk_at dksX1_byRank_3 11 rfl rfl)
theorem dX1_byRank_83 : decode cX1_byRank 83 = .ok (.istore 9, 2) := dk_54 9 (dk_at dksX1_byRank_3 12 rfl rfl)
theorem dX1_byRank_85 : decode cX1_byRank 85 = .ok (.aload_n 0, 1) := dk_42 (dk_at dksX1_byRank_3 14 rfl rfl)
theorem dX1_byRank_86 : decode cX1_byRank 86 = .ok (.iload_n 1, 1) := dk_27 (dk_at dksX1_byRank_3 15 rfl rfl)
theorem dX1_byRank_87 : decode cX1_byRank 87 = .ok (.iload 8, 2) := dk_21 8 (dk_at dksX1_byRank_3 16 rfl rfl)
theorem dX1_byRank_89 : decode cX1_byRank 89 = .ok (.iload 9, 2) := dk_21 9 (dk_at dksX1_byRank_3 18 rfl rfl)
theorem dX1_byRank_91 : decode cX1_byRank 91 = .ok (.iload_n 2, 1) := dk_28 (dk_at dksX1_byRank_3 20 rfl rfl)
theorem dX1_byRank_92 : decode cX1_byRank 92 = .ok (.aload_n 0, 1) := dk_42 (dk_at dksX1_byRank_3 21 rfl rfl)
theorem dX1_byRank_93 : decode cX1_byRank 93 = .ok (.getfield 151, 3) := dk_180 0 151 (dk_at dksX1_byRank_4 0 rfl rfl)
theorem dX1_byRank_96 : decode cX1_byRank 96 = .ok (.isub, 1) := dk_100 (dk_at dksX1_byRank_4 3 rfl rfl)
theorem dX1_byRank_97 : decode cX1_byRank 97 = .ok (.invokevirtual 220, 3) := dk_182 0 220 (dk_at dksX1_byRank_4 4 rfl rfl)
theorem dX1_byRank_100 : decode cX1_byRank 100 = .ok (.lstore 10, 2) := dk_55 10 (dk_at dksX1_byRank_4 7 rfl rfl)
theorem dX1_byRank_102 : decode cX1_byRank 102 = .ok (.lload 6, 2) := dk_22 6 (dk_at dksX1_byRank_4 9 rfl rfl)
theorem dX1_byRank_104 : decode cX1_byRank 104 = .ok (.lload 10, 2) := dk_22 10 (dk_at dksX1_byRank_4 11 rfl rfl)
theorem dX1_byRank_106 : decode cX1_byRank 106 = .ok (.lcmp, 1) := dk_148 (dk_at dksX1_byRank_4 13 rfl rfl)
theorem dX1_byRank_107 : decode cX1_byRank 107 = .ok (.ifCond .lt 33, 3) := dk_155 0 33 (dk_at dksX1_byRank_4 14 rfl rfl)
theorem dX1_byRank_110 : decode cX1_byRank 110 = .ok (.lload 6, 2) := dk_22 6 (dk_at dksX1_byRank_4 17 rfl rfl)
theorem dX1_byRank_112 : decode cX1_byRank 112 = .ok (.lload 10, 2) := dk_22 10 (dk_at dksX1_byRank_4 19 rfl rfl)
theorem dX1_byRank_114 : decode cX1_byRank 114 = .ok (.lsub, 1) := dk_101 (dk_at dksX1_byRank_4 21 rfl rfl)
theorem dX1_byRank_115 : decode cX1_byRank 115 = .ok (.lstore 6, 2) := dk_55 6 (dk_at dksX1_byRank_4 22 rfl rfl)
theorem dX1_byRank_117 : decode cX1_byRank 117 = .ok (.iinc 9 1, 3) := dk_132 9 1 (dk_at dksX1_byRank_5 0 rfl rfl)
theorem dX1_byRank_120 : decode cX1_byRank 120 = .ok (.aload_n 0, 1) := dk_42 (dk_at dksX1_byRank_5 3 rfl rfl)
theorem dX1_byRank_121 : decode cX1_byRank 121 = .ok (.iload_n 1, 1) := dk_27 (dk_at dksX1_byRank_5 4 rfl rfl)
theorem dX1_byRank_122 : decode cX1_byRank 122 = .ok (.iload 8, 2) := dk_21 8 (dk_at dksX1_byRank_5 5 rfl rfl)
theorem dX1_byRank_124 : decode cX1_byRank 124 = .ok (.iload 9, 2) := dk_21 9 (dk_at dksX1_byRank_5 7 rfl rfl)
theorem dX1_byRank_126 : decode cX1_byRank 126 = .ok (.iload_n 2, 1) := dk_28 (dk_at dksX1_byRank_5 9 rfl rfl)
theorem dX1_byRank_127 : decode cX1_byRank 127 = .ok (.aload_n 0, 1) := dk_42 (dk_at dksX1_byRank_5 10 rfl rfl)
theorem dX1_byRank_128 : decode cX1_byRank 128 = .ok (.getfield 151, 3) := dk_180 0 151 (dk_at dksX1_byRank_5 11 rfl rfl)
theorem dX1_byRank_131 : decode cX1_byRank 131 = .ok (.isub, 1) := dk_100 (dk_at dksX1_byRank_5 14 rfl rfl)
theorem dX1_byRank_132 : decode cX1_byRank 132 = .ok (.invokevirtual 220, 3) := dk_182 0 220 (dk_at dksX1_byRank_5 15 rfl rfl)
theorem dX1_byRank_135 : decode cX1_byRank 135 = .ok (.lstore 10, 2) := dk_55 10 (dk_at dksX1_byRank_5 18 rfl rfl)
theorem dX1_byRank_137 : decode cX1_byRank 137 = .ok (.goto (-35), 3) := dk_167 255 221 (dk_at dksX1_byRank_5 20 rfl rfl)
theorem dX1_byRank_140 : decode cX1_byRank 140 = .ok (.aload_n 0, 1) := dk_42 (dk_at dksX1_byRank_5 23 rfl rfl)
theorem dX1_byRank_141 : decode cX1_byRank 141 = .ok (.iload_n 1, 1) := dk_27 (dk_at dksX1_byRank_6 0 rfl rfl)
theorem dX1_byRank_142 : decode cX1_byRank 142 = .ok (.iload 8, 2) := dk_21 8 (dk_at dksX1_byRank_6 1 rfl rfl)
theorem dX1_byRank_144 : decode cX1_byRank 144 = .ok (.iload 9, 2) := dk_21 9 (dk_at dksX1_byRank_6 3 rfl rfl)
theorem dX1_byRank_146 : decode cX1_byRank 146 = .ok (.invokevirtual 206, 3) := dk_182 0 206 (dk_at dksX1_byRank_6 5 rfl rfl)
theorem dX1_byRank_149 : decode cX1_byRank 149 = .ok (.iconst 1, 1) := dk_4 (dk_at dksX1_byRank_6 8 rfl rfl)
theorem dX1_byRank_150 : decode cX1_byRank 150 = .ok (.iadd, 1) := dk_96 (dk_at dksX1_byRank_6 9 rfl rfl)
theorem dX1_byRank_151 : decode cX1_byRank 151 = .ok (.istore 8, 2) := dk_54 8 (dk_at dksX1_byRank_6 10 rfl rfl)
theorem dX1_byRank_153 : decode cX1_byRank 153 = .ok (.aload_n 0, 1) := dk_42 (dk_at dksX1_byRank_6 12 rfl rfl)
theorem dX1_byRank_154 : decode cX1_byRank 154 = .ok (.getfield 44, 3) := dk_180 0 44 (dk_at dksX1_byRank_6 13 rfl rfl)
theorem dX1_byRank_157 : decode cX1_byRank 157 = .ok (.aload_n 0, 1) := dk_42 (dk_at dksX1_byRank_6 16 rfl rfl)
theorem dX1_byRank_158 : decode cX1_byRank 158 = .ok (.getfield 151, 3) := dk_180 0 151 (dk_at dksX1_byRank_6 17 rfl rfl)
theorem dX1_byRank_161 : decode cX1_byRank 161 = .ok (.iload 9, 2) := dk_21 9 (dk_at dksX1_byRank_6 20 rfl rfl)
theorem dX1_byRank_163 : decode cX1_byRank 163 = .ok (.iastore, 1) := dk_79 (dk_at dksX1_byRank_6 22 rfl rfl)
theorem dX1_byRank_164 : decode cX1_byRank 164 = .ok (.aload_n 0, 1) := dk_42 (dk_at dksX1_byRank_6 23 rfl rfl)
theorem dX1_byRank_165 : decode cX1_byRank 165 = .ok (.dup, 1) := dk_89 (dk_at dksX1_byRank_7 0 rfl rfl)
theorem dX1_byRank_166 : decode cX1_byRank 166 = .ok (.getfield 151, 3) := dk_180 0 151 (dk_at dksX1_byRank_7 1 rfl rfl)
theorem dX1_byRank_169 : decode cX1_byRank 169 = .ok (.iconst 1, 1) := dk_4 (dk_at dksX1_byRank_7 4 rfl rfl)
theorem dX1_byRank_170 : decode cX1_byRank 170 = .ok (.iadd, 1) := dk_96 (dk_at dksX1_byRank_7 5 rfl rfl)
theorem dX1_byRank_171 : decode cX1_byRank 171 = .ok (.putfield 151, 3) := dk_181 0 151 (dk_at dksX1_byRank_7 6 rfl rfl)
theorem dX1_byRank_174 : decode cX1_byRank 174 = .ok (.goto (-100), 3) := dk_167 255 156 (dk_at dksX1_byRank_7 9 rfl rfl)
theorem dX1_byRank_177 : decode cX1_byRank 177 = .ok (.aload_n 0, 1) := dk_42 (dk_at dksX1_byRank_7 12 rfl rfl)
theorem dX1_byRank_178 : decode cX1_byRank 178 = .ok (.iload 4, 2) := dk_21 4 (dk_at dksX1_byRank_7 13 rfl rfl)
theorem dX1_byRank_180 : decode cX1_byRank 180 = .ok (.invokevirtual 214, 3) := dk_182 0 214 (dk_at dksX1_byRank_7 15 rfl rfl)
theorem dX1_byRank_183 : decode cX1_byRank 183 = .ok (.iload_n 2, 1) := dk_28 (dk_at dksX1_byRank_7 18 rfl rfl)
theorem dX1_byRank_184 : decode cX1_byRank 184 = .ok (.ireturn, 1) := dk_172 (dk_at dksX1_byRank_7 19 rfl rfl)
abbrev cX1_innersBy : ByteArray := prog_8_method_63_code
def yX1_innersBy : MethodName := ⟨RX1, "innersBy", "(IIII)J"⟩
def dkwX1_innersBy_1 : List UInt8 := [16, 41, 21, 5, 4, 96, 104, 21, 4, 96, 4, 100, 47, 173]
abbrev dktX1_innersBy_1 : List UInt8 := dkwX1_innersBy_1 ++ []
def dkwX1_innersBy_0 : List UInt8 := [42, 27, 28, 29, 182, 0, 206, 54, 5, 21, 5, 16, 247, 160, 0, 7, 9, 167, 0, 20, 42, 180, 0, 66]
abbrev dktX1_innersBy_0 : List UInt8 := dkwX1_innersBy_0 ++ dktX1_innersBy_1
theorem dksX1_innersBy_0 : cX1_innersBy.data.toList.drop 0 = dktX1_innersBy_0 := by decide +kernel
theorem dksX1_innersBy_1 : cX1_innersBy.data.toList.drop 24 = dktX1_innersBy_1 := dk_seg dksX1_innersBy_0 24 rfl rfl
theorem dX1_innersBy_0 : decode cX1_innersBy 0 = .ok (.aload_n 0, 1) := dk_42 (dk_at dksX1_innersBy_0 0 rfl rfl)
theorem dX1_innersBy_1 : decode cX1_innersBy 1 = .ok (.iload_n 1, 1) := dk_27 (dk_at dksX1_innersBy_0 1 rfl rfl)
theorem dX1_innersBy_2 : decode cX1_innersBy 2 = .ok (.iload_n 2, 1) := dk_28 (dk_at dksX1_innersBy_0 2 rfl rfl)
theorem dX1_innersBy_3 : decode cX1_innersBy 3 = .ok (.iload_n 3, 1) := dk_29 (dk_at dksX1_innersBy_0 3 rfl rfl)
theorem dX1_innersBy_4 : decode cX1_innersBy 4 = .ok (.invokevirtual 206, 3) := dk_182 0 206 (dk_at dksX1_innersBy_0 4 rfl rfl)
theorem dX1_innersBy_7 : decode cX1_innersBy 7 = .ok (.istore 5, 2) := dk_54 5 (dk_at dksX1_innersBy_0 7 rfl rfl)
theorem dX1_innersBy_9 : decode cX1_innersBy 9 = .ok (.iload 5, 2) := dk_21 5 (dk_at dksX1_innersBy_0 9 rfl rfl)
theorem dX1_innersBy_11 : decode cX1_innersBy 11 = .ok (.bipush (-9), 2) := dk_16 247 (dk_at dksX1_innersBy_0 11 rfl rfl)
theorem dX1_innersBy_13 : decode cX1_innersBy 13 = .ok (.if_icmp .ne 7, 3) := dk_160 0 7 (dk_at dksX1_innersBy_0 13 rfl rfl)
theorem dX1_innersBy_16 : decode cX1_innersBy 16 = .ok (.lconst 0, 1) := dk_9 (dk_at dksX1_innersBy_0 16 rfl rfl)
theorem dX1_innersBy_17 : decode cX1_innersBy 17 = .ok (.goto 20, 3) := dk_167 0 20 (dk_at dksX1_innersBy_0 17 rfl rfl)
theorem dX1_innersBy_20 : decode cX1_innersBy 20 = .ok (.aload_n 0, 1) := dk_42 (dk_at dksX1_innersBy_0 20 rfl rfl)
theorem dX1_innersBy_21 : decode cX1_innersBy 21 = .ok (.getfield 66, 3) := dk_180 0 66 (dk_at dksX1_innersBy_0 21 rfl rfl)
theorem dX1_innersBy_24 : decode cX1_innersBy 24 = .ok (.bipush 41, 2) := dk_16 41 (dk_at dksX1_innersBy_1 0 rfl rfl)
theorem dX1_innersBy_26 : decode cX1_innersBy 26 = .ok (.iload 5, 2) := dk_21 5 (dk_at dksX1_innersBy_1 2 rfl rfl)
theorem dX1_innersBy_28 : decode cX1_innersBy 28 = .ok (.iconst 1, 1) := dk_4 (dk_at dksX1_innersBy_1 4 rfl rfl)
theorem dX1_innersBy_29 : decode cX1_innersBy 29 = .ok (.iadd, 1) := dk_96 (dk_at dksX1_innersBy_1 5 rfl rfl)
theorem dX1_innersBy_30 : decode cX1_innersBy 30 = .ok (.imul, 1) := dk_104 (dk_at dksX1_innersBy_1 6 rfl rfl)
theorem dX1_innersBy_31 : decode cX1_innersBy 31 = .ok (.iload 4, 2) := dk_21 4 (dk_at dksX1_innersBy_1 7 rfl rfl)
theorem dX1_innersBy_33 : decode cX1_innersBy 33 = .ok (.iadd, 1) := dk_96 (dk_at dksX1_innersBy_1 9 rfl rfl)
theorem dX1_innersBy_34 : decode cX1_innersBy 34 = .ok (.iconst 1, 1) := dk_4 (dk_at dksX1_innersBy_1 10 rfl rfl)
theorem dX1_innersBy_35 : decode cX1_innersBy 35 = .ok (.isub, 1) := dk_100 (dk_at dksX1_innersBy_1 11 rfl rfl)
theorem dX1_innersBy_36 : decode cX1_innersBy 36 = .ok (.laload, 1) := dk_47 (dk_at dksX1_innersBy_1 12 rfl rfl)
theorem dX1_innersBy_37 : decode cX1_innersBy 37 = .ok (.lreturn, 1) := dk_173 (dk_at dksX1_innersBy_1 13 rfl rfl)
abbrev cX1_arches : ByteArray := prog_8_method_65_code
def yX1_arches : MethodName := ⟨RX1, "arches", "(I)I"⟩
def dkwX1_arches_1 : List UInt8 := [180, 0, 29, 27, 46, 42, 180, 0, 224, 100, 29, 182, 0, 142, 172]
abbrev dktX1_arches_1 : List UInt8 := dkwX1_arches_1 ++ []
def dkwX1_arches_0 : List UInt8 := [42, 4, 27, 182, 0, 192, 61, 28, 156, 0, 5, 28, 172, 42, 27, 3, 182, 0, 230, 62, 42, 42]
abbrev dktX1_arches_0 : List UInt8 := dkwX1_arches_0 ++ dktX1_arches_1
theorem dksX1_arches_0 : cX1_arches.data.toList.drop 0 = dktX1_arches_0 := by decide +kernel
theorem dksX1_arches_1 : cX1_arches.data.toList.drop 22 = dktX1_arches_1 := dk_seg dksX1_arches_0 22 rfl rfl
theorem dX1_arches_0 : decode cX1_arches 0 = .ok (.aload_n 0, 1) := dk_42 (dk_at dksX1_arches_0 0 rfl rfl)
theorem dX1_arches_1 : decode cX1_arches 1 = .ok (.iconst 1, 1) := dk_4 (dk_at dksX1_arches_0 1 rfl rfl)
theorem dX1_arches_2 : decode cX1_arches 2 = .ok (.iload_n 1, 1) := dk_27 (dk_at dksX1_arches_0 2 rfl rfl)
theorem dX1_arches_3 : decode cX1_arches 3 = .ok (.invokevirtual 192, 3) := dk_182 0 192 (dk_at dksX1_arches_0 3 rfl rfl)
theorem dX1_arches_6 : decode cX1_arches 6 = .ok (.istore_n 2, 1) := dk_61 (dk_at dksX1_arches_0 6 rfl rfl)
theorem dX1_arches_7 : decode cX1_arches 7 = .ok (.iload_n 2, 1) := dk_28 (dk_at dksX1_arches_0 7 rfl rfl)
theorem dX1_arches_8 : decode cX1_arches 8 = .ok (.ifCond .ge 5, 3) := dk_156 0 5 (dk_at dksX1_arches_0 8 rfl rfl)
theorem dX1_arches_11 : decode cX1_arches 11 = .ok (.iload_n 2, 1) := dk_28 (dk_at dksX1_arches_0 11 rfl rfl)
theorem dX1_arches_12 : decode cX1_arches 12 = .ok (.ireturn, 1) := dk_172 (dk_at dksX1_arches_0 12 rfl rfl)
theorem dX1_arches_13 : decode cX1_arches 13 = .ok (.aload_n 0, 1) := dk_42 (dk_at dksX1_arches_0 13 rfl rfl)
theorem dX1_arches_14 : decode cX1_arches 14 = .ok (.iload_n 1, 1) := dk_27 (dk_at dksX1_arches_0 14 rfl rfl)
theorem dX1_arches_15 : decode cX1_arches 15 = .ok (.iconst 0, 1) := dk_3 (dk_at dksX1_arches_0 15 rfl rfl)
theorem dX1_arches_16 : decode cX1_arches 16 = .ok (.invokevirtual 230, 3) := dk_182 0 230 (dk_at dksX1_arches_0 16 rfl rfl)
theorem dX1_arches_19 : decode cX1_arches 19 = .ok (.istore_n 3, 1) := dk_62 (dk_at dksX1_arches_0 19 rfl rfl)
theorem dX1_arches_20 : decode cX1_arches 20 = .ok (.aload_n 0, 1) := dk_42 (dk_at dksX1_arches_0 20 rfl rfl)
theorem dX1_arches_21 : decode cX1_arches 21 = .ok (.aload_n 0, 1) := dk_42 (dk_at dksX1_arches_0 21 rfl rfl)
theorem dX1_arches_22 : decode cX1_arches 22 = .ok (.getfield 29, 3) := dk_180 0 29 (dk_at dksX1_arches_1 0 rfl rfl)
theorem dX1_arches_25 : decode cX1_arches 25 = .ok (.iload_n 1, 1) := dk_27 (dk_at dksX1_arches_1 3 rfl rfl)
theorem dX1_arches_26 : decode cX1_arches 26 = .ok (.iaload, 1) := dk_46 (dk_at dksX1_arches_1 4 rfl rfl)
theorem dX1_arches_27 : decode cX1_arches 27 = .ok (.aload_n 0, 1) := dk_42 (dk_at dksX1_arches_1 5 rfl rfl)
theorem dX1_arches_28 : decode cX1_arches 28 = .ok (.getfield 224, 3) := dk_180 0 224 (dk_at dksX1_arches_1 6 rfl rfl)
theorem dX1_arches_31 : decode cX1_arches 31 = .ok (.isub, 1) := dk_100 (dk_at dksX1_arches_1 9 rfl rfl)
theorem dX1_arches_32 : decode cX1_arches 32 = .ok (.iload_n 3, 1) := dk_29 (dk_at dksX1_arches_1 10 rfl rfl)
theorem dX1_arches_33 : decode cX1_arches 33 = .ok (.invokevirtual 142, 3) := dk_182 0 142 (dk_at dksX1_arches_1 11 rfl rfl)
theorem dX1_arches_36 : decode cX1_arches 36 = .ok (.ireturn, 1) := dk_172 (dk_at dksX1_arches_1 14 rfl rfl)
abbrev cX1_archesFrom : ByteArray := prog_8_method_64_code
def yX1_archesFrom : MethodName := ⟨RX1, "archesFrom", "(II)I"⟩
def dkwX1_archesFrom_3 : List UInt8 := [181, 0, 224, 42, 3, 181, 0, 227, 132, 4, 1, 167, 255, 193, 29, 172]
abbrev dktX1_archesFrom_3 : List UInt8 := dkwX1_archesFrom_3 ++ []
def dkwX1_archesFrom_2 : List UInt8 := [180, 0, 227, 4, 42, 180, 0, 110, 120, 4, 100, 160, 0, 19, 132, 3, 1, 42, 21, 4, 4, 96]
abbrev dktX1_archesFrom_2 : List UInt8 := dkwX1_archesFrom_2 ++ dktX1_archesFrom_3
def dkwX1_archesFrom_1 : List UInt8 := [162, 0, 58, 42, 89, 180, 0, 227, 4, 42, 27, 21, 4, 182, 0, 148, 120, 128, 181, 0, 227, 42]
abbrev dktX1_archesFrom_1 : List UInt8 := dkwX1_archesFrom_1 ++ dktX1_archesFrom_2
def dkwX1_archesFrom_0 : List UInt8 := [3, 62, 42, 28, 181, 0, 224, 42, 3, 181, 0, 227, 28, 54, 4, 21, 4, 42, 180, 0, 29, 27, 46]
abbrev dktX1_archesFrom_0 : List UInt8 := dkwX1_archesFrom_0 ++ dktX1_archesFrom_1
theorem dksX1_archesFrom_0 : cX1_archesFrom.data.toList.drop 0 = dktX1_archesFrom_0 := by decide +kernel
theorem dksX1_archesFrom_1 : cX1_archesFrom.data.toList.drop 23 = dktX1_archesFrom_1 := dk_seg dksX1_archesFrom_0 23 rfl rfl
theorem dksX1_archesFrom_2 : cX1_archesFrom.data.toList.drop 45 = dktX1_archesFrom_2 := dk_seg dksX1_archesFrom_1 22 rfl rfl
theorem dksX1_archesFrom_3 : cX1_archesFrom.data.toList.drop 67 = dktX1_archesFrom_3 := dk_seg dksX1_archesFrom_2 22 rfl rfl
theorem dX1_archesFrom_0 : decode cX1_archesFrom 0 = .ok (.iconst 0, 1) := dk_3 (dk_at dksX1_archesFrom_0 0 rfl rfl)
theorem dX1_archesFrom_1 : decode cX1_archesFrom 1 = .ok (.istore_n 3, 1) := dk_62 (dk_at dksX1_archesFrom_0 1 rfl rfl)
theorem dX1_archesFrom_2 : decode cX1_archesFrom 2 = .ok (.aload_n 0, 1) := dk_42 (dk_at dksX1_archesFrom_0 2 rfl rfl)
theorem dX1_archesFrom_3 : decode cX1_archesFrom 3 = .ok (.iload_n 2, 1) := dk_28 (dk_at dksX1_archesFrom_0 3 rfl rfl)
theorem dX1_archesFrom_4 : decode cX1_archesFrom 4 = .ok (.putfield 224, 3) := dk_181 0 224 (dk_at dksX1_archesFrom_0 4 rfl rfl)
theorem dX1_archesFrom_7 : decode cX1_archesFrom 7 = .ok (.aload_n 0, 1) := dk_42 (dk_at dksX1_archesFrom_0 7 rfl rfl)
theorem dX1_archesFrom_8 : decode cX1_archesFrom 8 = .ok (.iconst 0, 1) := dk_3 (dk_at dksX1_archesFrom_0 8 rfl rfl)
theorem dX1_archesFrom_9 : decode cX1_archesFrom 9 = .ok (.putfield 227, 3) := dk_181 0 227 (dk_at dksX1_archesFrom_0 9 rfl rfl)
theorem dX1_archesFrom_12 : decode cX1_archesFrom 12 = .ok (.iload_n 2, 1) := dk_28 (dk_at dksX1_archesFrom_0 12 rfl rfl)
theorem dX1_archesFrom_13 : decode cX1_archesFrom 13 = .ok (.istore 4, 2) := dk_54 4 (dk_at dksX1_archesFrom_0 13 rfl rfl)
theorem dX1_archesFrom_15 : decode cX1_archesFrom 15 = .ok (.iload 4, 2) := dk_21 4 (dk_at dksX1_archesFrom_0 15 rfl rfl)
theorem dX1_archesFrom_17 : decode cX1_archesFrom 17 = .ok (.aload_n 0, 1) := dk_42 (dk_at dksX1_archesFrom_0 17 rfl rfl)
theorem dX1_archesFrom_18 : decode cX1_archesFrom 18 = .ok (.getfield 29, 3) := dk_180 0 29 (dk_at dksX1_archesFrom_0 18 rfl rfl)
theorem dX1_archesFrom_21 : decode cX1_archesFrom 21 = .ok (.iload_n 1, 1) := dk_27 (dk_at dksX1_archesFrom_0 21 rfl rfl)
theorem dX1_archesFrom_22 : decode cX1_archesFrom 22 = .ok (.iaload, 1) := dk_46 (dk_at dksX1_archesFrom_0 22 rfl rfl)
theorem dX1_archesFrom_23 : decode cX1_archesFrom 23 = .ok (.if_icmp .ge 58, 3) := dk_162 0 58 (dk_at dksX1_archesFrom_1 0 rfl rfl)
theorem dX1_archesFrom_26 : decode cX1_archesFrom 26 = .ok (.aload_n 0, 1) := dk_42 (dk_at dksX1_archesFrom_1 3 rfl rfl)
theorem dX1_archesFrom_27 : decode cX1_archesFrom 27 = .ok (.dup, 1) := dk_89 (dk_at dksX1_archesFrom_1 4 rfl rfl)
theorem dX1_archesFrom_28 : decode cX1_archesFrom 28 = .ok (.getfield 227, 3) := dk_180 0 227 (dk_at dksX1_archesFrom_1 5 rfl rfl)
theorem dX1_archesFrom_31 : decode cX1_archesFrom 31 = .ok (.iconst 1, 1) := dk_4 (dk_at dksX1_archesFrom_1 8 rfl rfl)
theorem dX1_archesFrom_32 : decode cX1_archesFrom 32 = .ok (.aload_n 0, 1) := dk_42 (dk_at dksX1_archesFrom_1 9 rfl rfl)
theorem dX1_archesFrom_33 : decode cX1_archesFrom 33 = .ok (.iload_n 1, 1) := dk_27 (dk_at dksX1_archesFrom_1 10 rfl rfl)
theorem dX1_archesFrom_34 : decode cX1_archesFrom 34 = .ok (.iload 4, 2) := dk_21 4 (dk_at dksX1_archesFrom_1 11 rfl rfl)
theorem dX1_archesFrom_36 : decode cX1_archesFrom 36 = .ok (.invokevirtual 148, 3) := dk_182 0 148 (dk_at dksX1_archesFrom_1 13 rfl rfl)
theorem dX1_archesFrom_39 : decode cX1_archesFrom 39 = .ok (.ishl, 1) := dk_120 (dk_at dksX1_archesFrom_1 16 rfl rfl)
theorem dX1_archesFrom_40 : decode cX1_archesFrom 40 = .ok (.ior, 1) := dk_128 (dk_at dksX1_archesFrom_1 17 rfl rfl)
theorem dX1_archesFrom_41 : decode cX1_archesFrom 41 = .ok (.putfield 227, 3) := dk_181 0 227 (dk_at dksX1_archesFrom_1 18 rfl rfl)
theorem dX1_archesFrom_44 : decode cX1_archesFrom 44 = .ok (.aload_n 0, 1) := dk_42 (dk_at dksX1_archesFrom_1 21 rfl rfl)
theorem dX1_archesFrom_45 : decode cX1_archesFrom 45 = .ok (.getfield 227, 3) := dk_180 0 227 (dk_at dksX1_archesFrom_2 0 rfl rfl)
theorem dX1_archesFrom_48 : decode cX1_archesFrom 48 = .ok (.iconst 1, 1) := dk_4 (dk_at dksX1_archesFrom_2 3 rfl rfl)
theorem dX1_archesFrom_49 : decode cX1_archesFrom 49 = .ok (.aload_n 0, 1) := dk_42 (dk_at dksX1_archesFrom_2 4 rfl rfl)
theorem dX1_archesFrom_50 : decode cX1_archesFrom 50 = .ok (.getfield 110, 3) := dk_180 0 110 (dk_at dksX1_archesFrom_2 5 rfl rfl)
theorem dX1_archesFrom_53 : decode cX1_archesFrom 53 = .ok (.ishl, 1) := dk_120 (dk_at dksX1_archesFrom_2 8 rfl rfl)
theorem dX1_archesFrom_54 : decode cX1_archesFrom 54 = .ok (.iconst 1, 1) := dk_4 (dk_at dksX1_archesFrom_2 9 rfl rfl)
theorem dX1_archesFrom_55 : decode cX1_archesFrom 55 = .ok (.isub, 1) := dk_100 (dk_at dksX1_archesFrom_2 10 rfl rfl)
theorem dX1_archesFrom_56 : decode cX1_archesFrom 56 = .ok (.if_icmp .ne 19, 3) := dk_160 0 19 (dk_at dksX1_archesFrom_2 11 rfl rfl)
theorem dX1_archesFrom_59 : decode cX1_archesFrom 59 = .ok (.iinc 3 1, 3) := dk_132 3 1 (dk_at dksX1_archesFrom_2 14 rfl rfl)
theorem dX1_archesFrom_62 : decode cX1_archesFrom 62 = .ok (.aload_n 0, 1) := dk_42 (dk_at dksX1_archesFrom_2 17 rfl rfl)
theorem dX1_archesFrom_63 : decode cX1_archesFrom 63 = .ok (.iload 4, 2) := dk_21 4 (dk_at dksX1_archesFrom_2 18 rfl rfl)
theorem dX1_archesFrom_65 : decode cX1_archesFrom 65 = .ok (.iconst 1, 1) := dk_4 (dk_at dksX1_archesFrom_2 20 rfl rfl)
theorem dX1_archesFrom_66 : decode cX1_archesFrom 66 = .ok (.iadd, 1) := dk_96 (dk_at dksX1_archesFrom_2 21 rfl rfl)
theorem dX1_archesFrom_67 : decode cX1_archesFrom 67 = .ok (.putfield 224, 3) := dk_181 0 224 (dk_at dksX1_archesFrom_3 0 rfl rfl)
theorem dX1_archesFrom_70 : decode cX1_archesFrom 70 = .ok (.aload_n 0, 1) := dk_42 (dk_at dksX1_archesFrom_3 3 rfl rfl)
theorem dX1_archesFrom_71 : decode cX1_archesFrom 71 = .ok (.iconst 0, 1) := dk_3 (dk_at dksX1_archesFrom_3 4 rfl rfl)
theorem dX1_archesFrom_72 : decode cX1_archesFrom 72 = .ok (.putfield 227, 3) := dk_181 0 227 (dk_at dksX1_archesFrom_3 5 rfl rfl)
theorem dX1_archesFrom_75 : decode cX1_archesFrom 75 = .ok (.iinc 4 1, 3) := dk_132 4 1 (dk_at dksX1_archesFrom_3 8 rfl rfl)
theorem dX1_archesFrom_78 : decode cX1_archesFrom 78 = .ok (.goto (-63), 3) := dk_167 255 193 (dk_at dksX1_archesFrom_3 11 rfl rfl)
theorem dX1_archesFrom_81 : decode cX1_archesFrom 81 = .ok (.iload_n 3, 1) := dk_29 (dk_at dksX1_archesFrom_3 14 rfl rfl)
theorem dX1_archesFrom_82 : decode cX1_archesFrom 82 = .ok (.ireturn, 1) := dk_172 (dk_at dksX1_archesFrom_3 15 rfl rfl)
abbrev cX1_absent : ByteArray := prog_8_method_69_code
def yX1_absent : MethodName := ⟨RX1, "absent", "(II)I"⟩
def dkwX1_absent_4 : List UInt8 := [21, 4, 182, 0, 202, 172]
abbrev dktX1_absent_4 : List UInt8 := dkwX1_absent_4 ++ []
def dkwX1_absent_3 : List UInt8 := [21, 4, 181, 0, 151, 42, 28, 182, 0, 214, 42, 42, 180, 0, 110, 133, 21, 4, 184, 0, 239, 22, 5, 101]
abbrev dktX1_absent_3 : List UInt8 := dkwX1_absent_3 ++ dktX1_absent_4
def dkwX1_absent_2 : List UInt8 := [47, 55, 5, 42, 27, 21, 4, 182, 0, 236, 42, 21, 4, 16, 40, 164, 0, 8, 16, 40, 167, 0, 5]
abbrev dktX1_absent_2 : List UInt8 := dkwX1_absent_2 ++ dktX1_absent_3
def dkwX1_absent_1 : List UInt8 := [54, 4, 42, 27, 182, 0, 217, 21, 4, 16, 40, 164, 0, 7, 9, 167, 0, 10, 42, 180, 0, 66, 21, 4]
abbrev dktX1_absent_1 : List UInt8 := dkwX1_absent_1 ++ dktX1_absent_2
def dkwX1_absent_0 : List UInt8 := [42, 28, 184, 0, 130, 27, 182, 0, 192, 62, 29, 156, 0, 5, 29, 172, 42, 27, 3, 182, 0, 230, 4, 96]
abbrev dktX1_absent_0 : List UInt8 := dkwX1_absent_0 ++ dktX1_absent_1
theorem dksX1_absent_0 : cX1_absent.data.toList.drop 0 = dktX1_absent_0 := by decide +kernel
theorem dksX1_absent_1 : cX1_absent.data.toList.drop 24 = dktX1_absent_1 := dk_seg dksX1_absent_0 24 rfl rfl
theorem dksX1_absent_2 : cX1_absent.data.toList.drop 48 = dktX1_absent_2 := dk_seg dksX1_absent_1 24 rfl rfl
theorem dksX1_absent_3 : cX1_absent.data.toList.drop 71 = dktX1_absent_3 := dk_seg dksX1_absent_2 23 rfl rfl
theorem dksX1_absent_4 : cX1_absent.data.toList.drop 95 = dktX1_absent_4 := dk_seg dksX1_absent_3 24 rfl rfl
theorem dX1_absent_0 : decode cX1_absent 0 = .ok (.aload_n 0, 1) := dk_42 (dk_at dksX1_absent_0 0 rfl rfl)
theorem dX1_absent_1 : decode cX1_absent 1 = .ok (.iload_n 2, 1) := dk_28 (dk_at dksX1_absent_0 1 rfl rfl)
theorem dX1_absent_2 : decode cX1_absent 2 = .ok (.invokestatic 130, 3) := dk_184 0 130 (dk_at dksX1_absent_0 2 rfl rfl)
theorem dX1_absent_5 : decode cX1_absent 5 = .ok (.iload_n 1, 1) := dk_27 (dk_at dksX1_absent_0 5 rfl rfl)
theorem dX1_absent_6 : decode cX1_absent 6 = .ok (.invokevirtual 192, 3) := dk_182 0 192 (dk_at dksX1_absent_0 6 rfl rfl)
theorem dX1_absent_9 : decode cX1_absent 9 = .ok (.istore_n 3, 1) := dk_62 (dk_at dksX1_absent_0 9 rfl rfl)
theorem dX1_absent_10 : decode cX1_absent 10 = .ok (.iload_n 3, 1) := dk_29 (dk_at dksX1_absent_0 10 rfl rfl)
theorem dX1_absent_11 : decode cX1_absent 11 = .ok (.ifCond .ge 5, 3) := dk_156 0 5 (dk_at dksX1_absent_0 11 rfl rfl)
theorem dX1_absent_14 : decode cX1_absent 14 = .ok (.iload_n 3, 1) := dk_29 (dk_at dksX1_absent_0 14 rfl rfl)
theorem dX1_absent_15 : decode cX1_absent 15 = .ok (.ireturn, 1) := dk_172 (dk_at dksX1_absent_0 15 rfl rfl)
theorem dX1_absent_16 : decode cX1_absent 16 = .ok (.aload_n 0, 1) := dk_42 (dk_at dksX1_absent_0 16 rfl rfl)
theorem dX1_absent_17 : decode cX1_absent 17 = .ok (.iload_n 1, 1) := dk_27 (dk_at dksX1_absent_0 17 rfl rfl)
theorem dX1_absent_18 : decode cX1_absent 18 = .ok (.iconst 0, 1) := dk_3 (dk_at dksX1_absent_0 18 rfl rfl)
theorem dX1_absent_19 : decode cX1_absent 19 = .ok (.invokevirtual 230, 3) := dk_182 0 230 (dk_at dksX1_absent_0 19 rfl rfl)
theorem dX1_absent_22 : decode cX1_absent 22 = .ok (.iconst 1, 1) := dk_4 (dk_at dksX1_absent_0 22 rfl rfl)
theorem dX1_absent_23 : decode cX1_absent 23 = .ok (.iadd, 1) := dk_96 (dk_at dksX1_absent_0 23 rfl rfl)
theorem dX1_absent_24 : decode cX1_absent 24 = .ok (.istore 4, 2) := dk_54 4 (dk_at dksX1_absent_1 0 rfl rfl)
theorem dX1_absent_26 : decode cX1_absent 26 = .ok (.aload_n 0, 1) := dk_42 (dk_at dksX1_absent_1 2 rfl rfl)
theorem dX1_absent_27 : decode cX1_absent 27 = .ok (.iload_n 1, 1) := dk_27 (dk_at dksX1_absent_1 3 rfl rfl)
theorem dX1_absent_28 : decode cX1_absent 28 = .ok (.invokevirtual 217, 3) := dk_182 0 217 (dk_at dksX1_absent_1 4 rfl rfl)
theorem dX1_absent_31 : decode cX1_absent 31 = .ok (.iload 4, 2) := dk_21 4 (dk_at dksX1_absent_1 7 rfl rfl)
theorem dX1_absent_33 : decode cX1_absent 33 = .ok (.bipush 40, 2) := dk_16 40 (dk_at dksX1_absent_1 9 rfl rfl)
theorem dX1_absent_35 : decode cX1_absent 35 = .ok (.if_icmp .le 7, 3) := dk_164 0 7 (dk_at dksX1_absent_1 11 rfl rfl)
theorem dX1_absent_38 : decode cX1_absent 38 = .ok (.lconst 0, 1) := dk_9 (dk_at dksX1_absent_1 14 rfl rfl)
theorem dX1_absent_39 : decode cX1_absent 39 = .ok (.goto 10, 3) := dk_167 0 10 (dk_at dksX1_absent_1 15 rfl rfl)
theorem dX1_absent_42 : decode cX1_absent 42 = .ok (.aload_n 0, 1) := dk_42 (dk_at dksX1_absent_1 18 rfl rfl)
theorem dX1_absent_43 : decode cX1_absent 43 = .ok (.getfield 66, 3) := dk_180 0 66 (dk_at dksX1_absent_1 19 rfl rfl)
theorem dX1_absent_46 : decode cX1_absent 46 = .ok (.iload 4, 2) := dk_21 4 (dk_at dksX1_absent_1 22 rfl rfl)
theorem dX1_absent_48 : decode cX1_absent 48 = .ok (.laload, 1) := dk_47 (dk_at dksX1_absent_2 0 rfl rfl)
theorem dX1_absent_49 : decode cX1_absent 49 = .ok (.lstore 5, 2) := dk_55 5 (dk_at dksX1_absent_2 1 rfl rfl)
theorem dX1_absent_51 : decode cX1_absent 51 = .ok (.aload_n 0, 1) := dk_42 (dk_at dksX1_absent_2 3 rfl rfl)
theorem dX1_absent_52 : decode cX1_absent 52 = .ok (.iload_n 1, 1) := dk_27 (dk_at dksX1_absent_2 4 rfl rfl)
theorem dX1_absent_53 : decode cX1_absent 53 = .ok (.iload 4, 2) := dk_21 4 (dk_at dksX1_absent_2 5 rfl rfl)
theorem dX1_absent_55 : decode cX1_absent 55 = .ok (.invokevirtual 236, 3) := dk_182 0 236 (dk_at dksX1_absent_2 7 rfl rfl)
theorem dX1_absent_58 : decode cX1_absent 58 = .ok (.aload_n 0, 1) := dk_42 (dk_at dksX1_absent_2 10 rfl rfl)
theorem dX1_absent_59 : decode cX1_absent 59 = .ok (.iload 4, 2) := dk_21 4 (dk_at dksX1_absent_2 11 rfl rfl)
theorem dX1_absent_61 : decode cX1_absent 61 = .ok (.bipush 40, 2) := dk_16 40 (dk_at dksX1_absent_2 13 rfl rfl)
theorem dX1_absent_63 : decode cX1_absent 63 = .ok (.if_icmp .le 8, 3) := dk_164 0 8 (dk_at dksX1_absent_2 15 rfl rfl)
theorem dX1_absent_66 : decode cX1_absent 66 = .ok (.bipush 40, 2) := dk_16 40 (dk_at dksX1_absent_2 18 rfl rfl)
theorem dX1_absent_68 : decode cX1_absent 68 = .ok (.goto 5, 3) := dk_167 0 5 (dk_at dksX1_absent_2 20 rfl rfl)
theorem dX1_absent_71 : decode cX1_absent 71 = .ok (.iload 4, 2) := dk_21 4 (dk_at dksX1_absent_3 0 rfl rfl)
theorem dX1_absent_73 : decode cX1_absent 73 = .ok (.putfield 151, 3) := dk_181 0 151 (dk_at dksX1_absent_3 2 rfl rfl)
theorem dX1_absent_76 : decode cX1_absent 76 = .ok (.aload_n 0, 1) := dk_42 (dk_at dksX1_absent_3 5 rfl rfl)
theorem dX1_absent_77 : decode cX1_absent 77 = .ok (.iload_n 2, 1) := dk_28 (dk_at dksX1_absent_3 6 rfl rfl)
theorem dX1_absent_78 : decode cX1_absent 78 = .ok (.invokevirtual 214, 3) := dk_182 0 214 (dk_at dksX1_absent_3 7 rfl rfl)
theorem dX1_absent_81 : decode cX1_absent 81 = .ok (.aload_n 0, 1) := dk_42 (dk_at dksX1_absent_3 10 rfl rfl)
theorem dX1_absent_82 : decode cX1_absent 82 = .ok (.aload_n 0, 1) := dk_42 (dk_at dksX1_absent_3 11 rfl rfl)
theorem dX1_absent_83 : decode cX1_absent 83 = .ok (.getfield 110, 3) := dk_180 0 110 (dk_at dksX1_absent_3 12 rfl rfl)
theorem dX1_absent_86 : decode cX1_absent 86 = .ok (.i2l, 1) := dk_133 (dk_at dksX1_absent_3 15 rfl rfl)
theorem dX1_absent_87 : decode cX1_absent 87 = .ok (.iload 4, 2) := dk_21 4 (dk_at dksX1_absent_3 16 rfl rfl)
theorem dX1_absent_89 : decode cX1_absent 89 = .ok (.invokestatic 239, 3) := dk_184 0 239 (dk_at dksX1_absent_3 18 rfl rfl)
theorem dX1_absent_92 : decode cX1_absent 92 = .ok (.lload 5, 2) := dk_22 5 (dk_at dksX1_absent_3 21 rfl rfl)
theorem dX1_absent_94 : decode cX1_absent 94 = .ok (.lsub, 1) := dk_101 (dk_at dksX1_absent_3 23 rfl rfl)
theorem dX1_absent_95 : decode cX1_absent 95 = .ok (.iload 4, 2) := dk_21 4 (dk_at dksX1_absent_4 0 rfl rfl)
theorem dX1_absent_97 : decode cX1_absent 97 = .ok (.invokevirtual 202, 3) := dk_182 0 202 (dk_at dksX1_absent_4 2 rfl rfl)
theorem dX1_absent_100 : decode cX1_absent 100 = .ok (.ireturn, 1) := dk_172 (dk_at dksX1_absent_4 5 rfl rfl)
abbrev cX1_layAbsent : ByteArray := prog_8_method_68_code
def yX1_layAbsent : MethodName := ⟨RX1, "layAbsent", "(II)V"⟩
def dkwX1_layAbsent_5 : List UInt8 := [180, 0, 151, 21, 5, 79, 42, 89, 180, 0, 151, 4, 96, 181, 0, 151, 167, 255, 132, 177]
abbrev dktX1_layAbsent_5 : List UInt8 := dkwX1_layAbsent_5 ++ []
def dkwX1_layAbsent_4 : List UInt8 := [29, 167, 0, 7, 21, 6, 4, 96, 62, 42, 180, 0, 151, 16, 40, 162, 0, 14, 42, 180, 0, 44, 42]
abbrev dktX1_layAbsent_4 : List UInt8 := dkwX1_layAbsent_4 ++ dktX1_layAbsent_5
def dkwX1_layAbsent_3 : List UInt8 := [182, 0, 206, 54, 6, 21, 6, 16, 247, 160, 0, 7, 4, 167, 0, 4, 3, 54, 4, 21, 4, 153, 0, 7]
abbrev dktX1_layAbsent_3 : List UInt8 := dkwX1_layAbsent_3 ++ dktX1_layAbsent_4
def dkwX1_layAbsent_2 : List UInt8 := [153, 0, 9, 132, 5, 1, 167, 255, 224, 21, 4, 153, 0, 8, 16, 247, 167, 0, 11, 42, 27, 29, 21, 5]
abbrev dktX1_layAbsent_2 : List UInt8 := dkwX1_layAbsent_2 ++ dktX1_layAbsent_3
def dkwX1_layAbsent_1 : List UInt8 := [154, 0, 33, 42, 27, 42, 27, 29, 21, 5, 182, 0, 206, 28, 4, 100, 42, 180, 0, 151, 100, 182, 0, 233]
abbrev dktX1_layAbsent_1 : List UInt8 := dkwX1_layAbsent_1 ++ dktX1_layAbsent_2
def dkwX1_layAbsent_0 : List UInt8 := [3, 62, 3, 54, 4, 42, 3, 181, 0, 151, 42, 180, 0, 151, 28, 162, 0, 122, 3, 54, 5, 21, 4]
abbrev dktX1_layAbsent_0 : List UInt8 := dkwX1_layAbsent_0 ++ dktX1_layAbsent_1
theorem dksX1_layAbsent_0 : cX1_layAbsent.data.toList.drop 0 = dktX1_layAbsent_0 := by decide +kernel
theorem dksX1_layAbsent_1 : cX1_layAbsent.data.toList.drop 23 = dktX1_layAbsent_1 := dk_seg dksX1_layAbsent_0 23 rfl rfl
theorem dksX1_layAbsent_2 : cX1_layAbsent.data.toList.drop 47 = dktX1_layAbsent_2 := dk_seg dksX1_layAbsent_1 24 rfl rfl
theorem dksX1_layAbsent_3 : cX1_layAbsent.data.toList.drop 71 = dktX1_layAbsent_3 := dk_seg dksX1_layAbsent_2 24 rfl rfl
theorem dksX1_layAbsent_4 : cX1_layAbsent.data.toList.drop 95 = dktX1_layAbsent_4 := dk_seg dksX1_layAbsent_3 24 rfl rfl
theorem dksX1_layAbsent_5 : cX1_layAbsent.data.toList.drop 118 = dktX1_layAbsent_5 := dk_seg dksX1_layAbsent_4 23 rfl rfl
theorem dX1_layAbsent_0 : decode cX1_layAbsent 0 = .ok (.iconst 0, 1) := dk_3 (dk_at dksX1_layAbsent_0 0 rfl rfl)
theorem dX1_layAbsent_1 : decode cX1_layAbsent 1 = .ok (.istore_n 3, 1) := dk_62 (dk_at dksX1_layAbsent_0 1 rfl rfl)
theorem dX1_layAbsent_2 : decode cX1_layAbsent 2 = .ok (.iconst 0, 1) := dk_3 (dk_at dksX1_layAbsent_0 2 rfl rfl)
theorem dX1_layAbsent_3 : decode cX1_layAbsent 3 = .ok (.istore 4, 2) := dk_54 4 (dk_at dksX1_layAbsent_0 3 rfl rfl)
theorem dX1_layAbsent_5 : decode cX1_layAbsent 5 = .ok (.aload_n 0, 1) := dk_42 (dk_at dksX1_layAbsent_0 5 rfl rfl)
theorem dX1_layAbsent_6 : decode cX1_layAbsent 6 = .ok (.iconst 0, 1) := dk_3 (dk_at dksX1_layAbsent_0 6 rfl rfl)
theorem dX1_layAbsent_7 : decode cX1_layAbsent 7 = .ok (.putfield 151, 3) := dk_181 0 151 (dk_at dksX1_layAbsent_0 7 rfl rfl)
theorem dX1_layAbsent_10 : decode cX1_layAbsent 10 = .ok (.aload_n 0, 1) := dk_42 (dk_at dksX1_layAbsent_0 10 rfl rfl)
theorem dX1_layAbsent_11 : decode cX1_layAbsent 11 = .ok (.getfield 151, 3) := dk_180 0 151 (dk_at dksX1_layAbsent_0 11 rfl rfl)
theorem dX1_layAbsent_14 : decode cX1_layAbsent 14 = .ok (.iload_n 2, 1) := dk_28 (dk_at dksX1_layAbsent_0 14 rfl rfl)
theorem dX1_layAbsent_15 : decode cX1_layAbsent 15 = .ok (.if_icmp .ge 122, 3) := dk_162 0 122 (dk_at dksX1_layAbsent_0 15 rfl rfl)
theorem dX1_layAbsent_18 : decode cX1_layAbsent 18 = .ok (.iconst 0, 1) := dk_3 (dk_at dksX1_layAbsent_0 18 rfl rfl)
theorem dX1_layAbsent_19 : decode cX1_layAbsent 19 = .ok (.istore 5, 2) := dk_54 5 (dk_at dksX1_layAbsent_0 19 rfl rfl)
theorem dX1_layAbsent_21 : decode cX1_layAbsent 21 = .ok (.iload 4, 2) := dk_21 4 (dk_at dksX1_layAbsent_0 21 rfl rfl)
theorem dX1_layAbsent_23 : decode cX1_layAbsent 23 = .ok (.ifCond .ne 33, 3) := dk_154 0 33 (dk_at dksX1_layAbsent_1 0 rfl rfl)
theorem dX1_layAbsent_26 : decode cX1_layAbsent 26 = .ok (.aload_n 0, 1) := dk_42 (dk_at dksX1_layAbsent_1 3 rfl rfl)
theorem dX1_layAbsent_27 : decode cX1_layAbsent 27 = .ok (.iload_n 1, 1) := dk_27 (dk_at dksX1_layAbsent_1 4 rfl rfl)
theorem dX1_layAbsent_28 : decode cX1_layAbsent 28 = .ok (.aload_n 0, 1) := dk_42 (dk_at dksX1_layAbsent_1 5 rfl rfl)
theorem dX1_layAbsent_29 : decode cX1_layAbsent 29 = .ok (.iload_n 1, 1) := dk_27 (dk_at dksX1_layAbsent_1 6 rfl rfl)
theorem dX1_layAbsent_30 : decode cX1_layAbsent 30 = .ok (.iload_n 3, 1) := dk_29 (dk_at dksX1_layAbsent_1 7 rfl rfl)
theorem dX1_layAbsent_31 : decode cX1_layAbsent 31 = .ok (.iload 5, 2) := dk_21 5 (dk_at dksX1_layAbsent_1 8 rfl rfl)
theorem dX1_layAbsent_33 : decode cX1_layAbsent 33 = .ok (.invokevirtual 206, 3) := dk_182 0 206 (dk_at dksX1_layAbsent_1 10 rfl rfl)
theorem dX1_layAbsent_36 : decode cX1_layAbsent 36 = .ok (.iload_n 2, 1) := dk_28 (dk_at dksX1_layAbsent_1 13 rfl rfl)
theorem dX1_layAbsent_37 : decode cX1_layAbsent 37 = .ok (.iconst 1, 1) := dk_4 (dk_at dksX1_layAbsent_1 14 rfl rfl)
theorem dX1_layAbsent_38 : decode cX1_layAbsent 38 = .ok (.isub, 1) := dk_100 (dk_at dksX1_layAbsent_1 15 rfl rfl)
theorem dX1_layAbsent_39 : decode cX1_layAbsent 39 = .ok (.aload_n 0, 1) := dk_42 (dk_at dksX1_layAbsent_1 16 rfl rfl)
theorem dX1_layAbsent_40 : decode cX1_layAbsent 40 = .ok (.getfield 151, 3) := dk_180 0 151 (dk_at dksX1_layAbsent_1 17 rfl rfl)
theorem dX1_layAbsent_43 : decode cX1_layAbsent 43 = .ok (.isub, 1) := dk_100 (dk_at dksX1_layAbsent_1 20 rfl rfl)
theorem dX1_layAbsent_44 : decode cX1_layAbsent 44 = .ok (.invokevirtual 233, 3) := dk_182 0 233 (dk_at dksX1_layAbsent_1 21 rfl rfl)
theorem dX1_layAbsent_47 : decode cX1_layAbsent 47 = .ok (.ifCond .eq 9, 3) := dk_153 0 9 (dk_at dksX1_layAbsent_2 0 rfl rfl)
theorem dX1_layAbsent_50 : decode cX1_layAbsent 50 = .ok (.iinc 5 1, 3) := dk_132 5 1 (dk_at dksX1_layAbsent_2 3 rfl rfl)
theorem dX1_layAbsent_53 : decode cX1_layAbsent 53 = .ok (.goto (-32), 3) := dk_167 255 224 (dk_at dksX1_layAbsent_2 6 rfl rfl)
theorem dX1_layAbsent_56 : decode cX1_layAbsent 56 = .ok (.iload 4, 2) := dk_21 4 (dk_at dksX1_layAbsent_2 9 rfl rfl)
theorem dX1_layAbsent_58 : decode cX1_layAbsent 58 = .ok (.ifCond .eq 8, 3) := dk_153 0 8 (dk_at dksX1_layAbsent_2 11 rfl rfl)
theorem dX1_layAbsent_61 : decode cX1_layAbsent 61 = .ok (.bipush (-9), 2) := dk_16 247 (dk_at dksX1_layAbsent_2 14 rfl rfl)
theorem dX1_layAbsent_63 : decode cX1_layAbsent 63 = .ok (.goto 11, 3) := dk_167 0 11 (dk_at dksX1_layAbsent_2 16 rfl rfl)
theorem dX1_layAbsent_66 : decode cX1_layAbsent 66 = .ok (.aload_n 0, 1) := dk_42 (dk_at dksX1_layAbsent_2 19 rfl rfl)
theorem dX1_layAbsent_67 : decode cX1_layAbsent 67 = .ok (.iload_n 1, 1) := dk_27 (dk_at dksX1_layAbsent_2 20 rfl rfl)
theorem dX1_layAbsent_68 : decode cX1_layAbsent 68 = .ok (.iload_n 3, 1) := dk_29 (dk_at dksX1_layAbsent_2 21 rfl rfl)
theorem dX1_layAbsent_69 : decode cX1_layAbsent 69 = .ok (.iload 5, 2) := dk_21 5 (dk_at dksX1_layAbsent_2 22 rfl rfl)
theorem dX1_layAbsent_71 : decode cX1_layAbsent 71 = .ok (.invokevirtual 206, 3) := dk_182 0 206 (dk_at dksX1_layAbsent_3 0 rfl rfl)
theorem dX1_layAbsent_74 : decode cX1_layAbsent 74 = .ok (.istore 6, 2) := dk_54 6 (dk_at dksX1_layAbsent_3 3 rfl rfl)
theorem dX1_layAbsent_76 : decode cX1_layAbsent 76 = .ok (.iload 6, 2) := dk_21 6 (dk_at dksX1_layAbsent_3 5 rfl rfl)
theorem dX1_layAbsent_78 : decode cX1_layAbsent 78 = .ok (.bipush (-9), 2) := dk_16 247 (dk_at dksX1_layAbsent_3 7 rfl rfl)
theorem dX1_layAbsent_80 : decode cX1_layAbsent 80 = .ok (.if_icmp .ne 7, 3) := dk_160 0 7 (dk_at dksX1_layAbsent_3 9 rfl rfl)
theorem dX1_layAbsent_83 : decode cX1_layAbsent 83 = .ok (.iconst 1, 1) := dk_4 (dk_at dksX1_layAbsent_3 12 rfl rfl)
theorem dX1_layAbsent_84 : decode cX1_layAbsent 84 = .ok (.goto 4, 3) := dk_167 0 4 (dk_at dksX1_layAbsent_3 13 rfl rfl)
theorem dX1_layAbsent_87 : decode cX1_layAbsent 87 = .ok (.iconst 0, 1) := dk_3 (dk_at dksX1_layAbsent_3 16 rfl rfl)
theorem dX1_layAbsent_88 : decode cX1_layAbsent 88 = .ok (.istore 4, 2) := dk_54 4 (dk_at dksX1_layAbsent_3 17 rfl rfl)
theorem dX1_layAbsent_90 : decode cX1_layAbsent 90 = .ok (.iload 4, 2) := dk_21 4 (dk_at dksX1_layAbsent_3 19 rfl rfl)
theorem dX1_layAbsent_92 : decode cX1_layAbsent 92 = .ok (.ifCond .eq 7, 3) := dk_153 0 7 (dk_at dksX1_layAbsent_3 21 rfl rfl)
theorem dX1_layAbsent_95 : decode cX1_layAbsent 95 = .ok (.iload_n 3, 1) := dk_29 (dk_at dksX1_layAbsent_4 0 rfl rfl)
theorem dX1_layAbsent_96 : decode cX1_layAbsent 96 = .ok (.goto 7, 3) := dk_167 0 7 (dk_at dksX1_layAbsent_4 1 rfl rfl)
theorem dX1_layAbsent_99 : decode cX1_layAbsent 99 = .ok (.iload 6, 2) := dk_21 6 (dk_at dksX1_layAbsent_4 4 rfl rfl)
theorem dX1_layAbsent_101 : decode cX1_layAbsent 101 = .ok (.iconst 1, 1) := dk_4 (dk_at dksX1_layAbsent_4 6 rfl rfl)
theorem dX1_layAbsent_102 : decode cX1_layAbsent 102 = .ok (.iadd, 1) := dk_96 (dk_at dksX1_layAbsent_4 7 rfl rfl)
theorem dX1_layAbsent_103 : decode cX1_layAbsent 103 = .ok (.istore_n 3, 1) := dk_62 (dk_at dksX1_layAbsent_4 8 rfl rfl)
theorem dX1_layAbsent_104 : decode cX1_layAbsent 104 = .ok (.aload_n 0, 1) := dk_42 (dk_at dksX1_layAbsent_4 9 rfl rfl)
theorem dX1_layAbsent_105 : decode cX1_layAbsent 105 = .ok (.getfield 151, 3) := dk_180 0 151 (dk_at dksX1_layAbsent_4 10 rfl rfl)
theorem dX1_layAbsent_108 : decode cX1_layAbsent 108 = .ok (.bipush 40, 2) := dk_16 40 (dk_at dksX1_layAbsent_4 13 rfl rfl)
theorem dX1_layAbsent_110 : decode cX1_layAbsent 110 = .ok (.if_icmp .ge 14, 3) := dk_162 0 14 (dk_at dksX1_layAbsent_4 15 rfl rfl)
theorem dX1_layAbsent_113 : decode cX1_layAbsent 113 = .ok (.aload_n 0, 1) := dk_42 (dk_at dksX1_layAbsent_4 18 rfl rfl)
theorem dX1_layAbsent_114 : decode cX1_layAbsent 114 = .ok (.getfield 44, 3) := dk_180 0 44 (dk_at dksX1_layAbsent_4 19 rfl rfl)
theorem dX1_layAbsent_117 : decode cX1_layAbsent 117 = .ok (.aload_n 0, 1) := dk_42 (dk_at dksX1_layAbsent_4 22 rfl rfl)
theorem dX1_layAbsent_118 : decode cX1_layAbsent 118 = .ok (.getfield 151, 3) := dk_180 0 151 (dk_at dksX1_layAbsent_5 0 rfl rfl)
theorem dX1_layAbsent_121 : decode cX1_layAbsent 121 = .ok (.iload 5, 2) := dk_21 5 (dk_at dksX1_layAbsent_5 3 rfl rfl)
theorem dX1_layAbsent_123 : decode cX1_layAbsent 123 = .ok (.iastore, 1) := dk_79 (dk_at dksX1_layAbsent_5 5 rfl rfl)
theorem dX1_layAbsent_124 : decode cX1_layAbsent 124 = .ok (.aload_n 0, 1) := dk_42 (dk_at dksX1_layAbsent_5 6 rfl rfl)
theorem dX1_layAbsent_125 : decode cX1_layAbsent 125 = .ok (.dup, 1) := dk_89 (dk_at dksX1_layAbsent_5 7 rfl rfl)
theorem dX1_layAbsent_126 : decode cX1_layAbsent 126 = .ok (.getfield 151, 3) := dk_180 0 151 (dk_at dksX1_layAbsent_5 8 rfl rfl)
theorem dX1_layAbsent_129 : decode cX1_layAbsent 129 = .ok (.iconst 1, 1) := dk_4 (dk_at dksX1_layAbsent_5 11 rfl rfl)
theorem dX1_layAbsent_130 : decode cX1_layAbsent 130 = .ok (.iadd, 1) := dk_96 (dk_at dksX1_layAbsent_5 12 rfl rfl)
theorem dX1_layAbsent_131 : decode cX1_layAbsent 131 = .ok (.putfield 151, 3) := dk_181 0 151 (dk_at dksX1_layAbsent_5 13 rfl rfl)
theorem dX1_layAbsent_134 : decode cX1_layAbsent 134 = .ok (.goto (-124), 3) := dk_167 255 132 (dk_at dksX1_layAbsent_5 16 rfl rfl)
theorem dX1_layAbsent_137 : decode cX1_layAbsent 137 = .ok (.return_, 1) := dk_177 (dk_at dksX1_layAbsent_5 19 rfl rfl)
abbrev cX1_hasAll : ByteArray := prog_8_method_67_code
def yX1_hasAll : MethodName := ⟨RX1, "hasAll", "(III)Z"⟩
def dkwX1_hasAll_0 : List UInt8 := [28, 16, 247, 159, 0, 19, 42, 27, 28, 4, 96, 182, 0, 230, 29, 161, 0, 7, 4, 167, 0, 4, 3, 172]
abbrev dktX1_hasAll_0 : List UInt8 := dkwX1_hasAll_0 ++ []
theorem dksX1_hasAll_0 : cX1_hasAll.data.toList.drop 0 = dktX1_hasAll_0 := by decide +kernel
theorem dX1_hasAll_0 : decode cX1_hasAll 0 = .ok (.iload_n 2, 1) := dk_28 (dk_at dksX1_hasAll_0 0 rfl rfl)
theorem dX1_hasAll_1 : decode cX1_hasAll 1 = .ok (.bipush (-9), 2) := dk_16 247 (dk_at dksX1_hasAll_0 1 rfl rfl)
theorem dX1_hasAll_3 : decode cX1_hasAll 3 = .ok (.if_icmp .eq 19, 3) := dk_159 0 19 (dk_at dksX1_hasAll_0 3 rfl rfl)
theorem dX1_hasAll_6 : decode cX1_hasAll 6 = .ok (.aload_n 0, 1) := dk_42 (dk_at dksX1_hasAll_0 6 rfl rfl)
theorem dX1_hasAll_7 : decode cX1_hasAll 7 = .ok (.iload_n 1, 1) := dk_27 (dk_at dksX1_hasAll_0 7 rfl rfl)
theorem dX1_hasAll_8 : decode cX1_hasAll 8 = .ok (.iload_n 2, 1) := dk_28 (dk_at dksX1_hasAll_0 8 rfl rfl)
theorem dX1_hasAll_9 : decode cX1_hasAll 9 = .ok (.iconst 1, 1) := dk_4 (dk_at dksX1_hasAll_0 9 rfl rfl)
theorem dX1_hasAll_10 : decode cX1_hasAll 10 = .ok (.iadd, 1) := dk_96 (dk_at dksX1_hasAll_0 10 rfl rfl)
theorem dX1_hasAll_11 : decode cX1_hasAll 11 = .ok (.invokevirtual 230, 3) := dk_182 0 230 (dk_at dksX1_hasAll_0 11 rfl rfl)
theorem dX1_hasAll_14 : decode cX1_hasAll 14 = .ok (.iload_n 3, 1) := dk_29 (dk_at dksX1_hasAll_0 14 rfl rfl)
theorem dX1_hasAll_15 : decode cX1_hasAll 15 = .ok (.if_icmp .lt 7, 3) := dk_161 0 7 (dk_at dksX1_hasAll_0 15 rfl rfl)
theorem dX1_hasAll_18 : decode cX1_hasAll 18 = .ok (.iconst 1, 1) := dk_4 (dk_at dksX1_hasAll_0 18 rfl rfl)
theorem dX1_hasAll_19 : decode cX1_hasAll 19 = .ok (.goto 4, 3) := dk_167 0 4 (dk_at dksX1_hasAll_0 19 rfl rfl)
theorem dX1_hasAll_22 : decode cX1_hasAll 22 = .ok (.iconst 0, 1) := dk_3 (dk_at dksX1_hasAll_0 22 rfl rfl)
theorem dX1_hasAll_23 : decode cX1_hasAll 23 = .ok (.ireturn, 1) := dk_172 (dk_at dksX1_hasAll_0 23 rfl rfl)
abbrev cX1_powerOf : ByteArray := prog_8_method_66_code
def yX1_powerOf : MethodName := ⟨RX1, "powerOf", "(JI)J"⟩
def dkwX1_powerOf_0 : List UInt8 := [10, 66, 3, 54, 5, 21, 5, 28, 162, 0, 13, 33, 30, 105, 66, 132, 5, 1, 167, 255, 243, 33, 173]
abbrev dktX1_powerOf_0 : List UInt8 := dkwX1_powerOf_0 ++ []
theorem dksX1_powerOf_0 : cX1_powerOf.data.toList.drop 0 = dktX1_powerOf_0 := by decide +kernel
theorem dX1_powerOf_0 : decode cX1_powerOf 0 = .ok (.lconst 1, 1) := dk_10 (dk_at dksX1_powerOf_0 0 rfl rfl)
theorem dX1_powerOf_1 : decode cX1_powerOf 1 = .ok (.lstore_n 3, 1) := dk_66 (dk_at dksX1_powerOf_0 1 rfl rfl)
theorem dX1_powerOf_2 : decode cX1_powerOf 2 = .ok (.iconst 0, 1) := dk_3 (dk_at dksX1_powerOf_0 2 rfl rfl)
theorem dX1_powerOf_3 : decode cX1_powerOf 3 = .ok (.istore 5, 2) := dk_54 5 (dk_at dksX1_powerOf_0 3 rfl rfl)
theorem dX1_powerOf_5 : decode cX1_powerOf 5 = .ok (.iload 5, 2) := dk_21 5 (dk_at dksX1_powerOf_0 5 rfl rfl)
theorem dX1_powerOf_7 : decode cX1_powerOf 7 = .ok (.iload_n 2, 1) := dk_28 (dk_at dksX1_powerOf_0 7 rfl rfl)
theorem dX1_powerOf_8 : decode cX1_powerOf 8 = .ok (.if_icmp .ge 13, 3) := dk_162 0 13 (dk_at dksX1_powerOf_0 8 rfl rfl)
theorem dX1_powerOf_11 : decode cX1_powerOf 11 = .ok (.lload_n 3, 1) := dk_33 (dk_at dksX1_powerOf_0 11 rfl rfl)
theorem dX1_powerOf_12 : decode cX1_powerOf 12 = .ok (.lload_n 0, 1) := dk_30 (dk_at dksX1_powerOf_0 12 rfl rfl)
theorem dX1_powerOf_13 : decode cX1_powerOf 13 = .ok (.lmul, 1) := dk_105 (dk_at dksX1_powerOf_0 13 rfl rfl)
theorem dX1_powerOf_14 : decode cX1_powerOf 14 = .ok (.lstore_n 3, 1) := dk_66 (dk_at dksX1_powerOf_0 14 rfl rfl)
theorem dX1_powerOf_15 : decode cX1_powerOf 15 = .ok (.iinc 5 1, 3) := dk_132 5 1 (dk_at dksX1_powerOf_0 15 rfl rfl)
theorem dX1_powerOf_18 : decode cX1_powerOf 18 = .ok (.goto (-13), 3) := dk_167 255 243 (dk_at dksX1_powerOf_0 18 rfl rfl)
theorem dX1_powerOf_21 : decode cX1_powerOf 21 = .ok (.lload_n 3, 1) := dk_33 (dk_at dksX1_powerOf_0 21 rfl rfl)
theorem dX1_powerOf_22 : decode cX1_powerOf 22 = .ok (.lreturn, 1) := dk_173 (dk_at dksX1_powerOf_0 22 rfl rfl)
abbrev cX1_added : ByteArray := prog_8_method_70_code
def yX1_added : MethodName := ⟨RX1, "added", "(II)I"⟩
def dkwX1_added_4 : List UInt8 := [42, 180, 0, 110, 104, 96, 172]
abbrev dktX1_added_4 : List UInt8 := dkwX1_added_4 ++ []
def dkwX1_added_3 : List UInt8 := [132, 6, 1, 167, 255, 222, 21, 4, 28, 161, 0, 7, 3, 167, 0, 17, 21, 5, 28, 21, 4, 100, 4, 100]
abbrev dktX1_added_3 : List UInt8 := dkwX1_added_3 ++ dktX1_added_4
def dkwX1_added_2 : List UInt8 := [21, 5, 42, 180, 0, 227, 21, 6, 184, 0, 243, 153, 0, 7, 4, 167, 0, 4, 3, 100, 54, 5]
abbrev dktX1_added_2 : List UInt8 := dkwX1_added_2 ++ dktX1_added_3
def dkwX1_added_1 : List UInt8 := [182, 0, 230, 54, 4, 42, 180, 0, 110, 54, 5, 3, 54, 6, 21, 6, 42, 180, 0, 110, 162, 0, 31]
abbrev dktX1_added_1 : List UInt8 := dkwX1_added_1 ++ dktX1_added_2
def dkwX1_added_0 : List UInt8 := [42, 28, 3, 16, 40, 184, 0, 117, 27, 182, 0, 192, 62, 29, 156, 0, 5, 29, 172, 42, 27, 3]
abbrev dktX1_added_0 : List UInt8 := dkwX1_added_0 ++ dktX1_added_1
theorem dksX1_added_0 : cX1_added.data.toList.drop 0 = dktX1_added_0 := by decide +kernel
theorem dksX1_added_1 : cX1_added.data.toList.drop 22 = dktX1_added_1 := dk_seg dksX1_added_0 22 rfl rfl
theorem dksX1_added_2 : cX1_added.data.toList.drop 45 = dktX1_added_2 := dk_seg dksX1_added_1 23 rfl rfl
theorem dksX1_added_3 : cX1_added.data.toList.drop 67 = dktX1_added_3 := dk_seg dksX1_added_2 22 rfl rfl
theorem dksX1_added_4 : cX1_added.data.toList.drop 91 = dktX1_added_4 := dk_seg dksX1_added_3 24 rfl rfl
theorem dX1_added_0 : decode cX1_added 0 = .ok (.aload_n 0, 1) := dk_42 (dk_at dksX1_added_0 0 rfl rfl)
theorem dX1_added_1 : decode cX1_added 1 = .ok (.iload_n 2, 1) := dk_28 (dk_at dksX1_added_0 1 rfl rfl)
theorem dX1_added_2 : decode cX1_added 2 = .ok (.iconst 0, 1) := dk_3 (dk_at dksX1_added_0 2 rfl rfl)
theorem dX1_added_3 : decode cX1_added 3 = .ok (.bipush 40, 2) := dk_16 40 (dk_at dksX1_added_0 3 rfl rfl)
theorem dX1_added_5 : decode cX1_added 5 = .ok (.invokestatic 117, 3) := dk_184 0 117 (dk_at dksX1_added_0 5 rfl rfl)
theorem dX1_added_8 : decode cX1_added 8 = .ok (.iload_n 1, 1) := dk_27 (dk_at dksX1_added_0 8 rfl rfl)
theorem dX1_added_9 : decode cX1_added 9 = .ok (.invokevirtual 192, 3) := dk_182 0 192 (dk_at dksX1_added_0 9 rfl rfl)
theorem dX1_added_12 : decode cX1_added 12 = .ok (.istore_n 3, 1) := dk_62 (dk_at dksX1_added_0 12 rfl rfl)
theorem dX1_added_13 : decode cX1_added 13 = .ok (.iload_n 3, 1) := dk_29 (dk_at dksX1_added_0 13 rfl rfl)
theorem dX1_added_14 : decode cX1_added 14 = .ok (.ifCond .ge 5, 3) := dk_156 0 5 (dk_at dksX1_added_0 14 rfl rfl)
theorem dX1_added_17 : decode cX1_added 17 = .ok (.iload_n 3, 1) := dk_29 (dk_at dksX1_added_0 17 rfl rfl)
theorem dX1_added_18 : decode cX1_added 18 = .ok (.ireturn, 1) := dk_172 (dk_at dksX1_added_0 18 rfl rfl)
theorem dX1_added_19 : decode cX1_added 19 = .ok (.aload_n 0, 1) := dk_42 (dk_at dksX1_added_0 19 rfl rfl)
theorem dX1_added_20 : decode cX1_added 20 = .ok (.iload_n 1, 1) := dk_27 (dk_at dksX1_added_0 20 rfl rfl)
theorem dX1_added_21 : decode cX1_added 21 = .ok (.iconst 0, 1) := dk_3 (dk_at dksX1_added_0 21 rfl rfl)
theorem dX1_added_22 : decode cX1_added 22 = .ok (.invokevirtual 230, 3) := dk_182 0 230 (dk_at dksX1_added_1 0 rfl rfl)
theorem dX1_added_25 : decode cX1_added 25 = .ok (.istore 4, 2) := dk_54 4 (dk_at dksX1_added_1 3 rfl rfl)
theorem dX1_added_27 : decode cX1_added 27 = .ok (.aload_n 0, 1) := dk_42 (dk_at dksX1_added_1 5 rfl rfl)
theorem dX1_added_28 : decode cX1_added 28 = .ok (.getfield 110, 3) := dk_180 0 110 (dk_at dksX1_added_1 6 rfl rfl)
theorem dX1_added_31 : decode cX1_added 31 = .ok (.istore 5, 2) := dk_54 5 (dk_at dksX1_added_1 9 rfl rfl)
theorem dX1_added_33 : decode cX1_added 33 = .ok (.iconst 0, 1) := dk_3 (dk_at dksX1_added_1 11 rfl rfl)
theorem dX1_added_34 : decode cX1_added 34 = .ok (.istore 6, 2) := dk_54 6 (dk_at dksX1_added_1 12 rfl rfl)
theorem dX1_added_36 : decode cX1_added 36 = .ok (.iload 6, 2) := dk_21 6 (dk_at dksX1_added_1 14 rfl rfl)
theorem dX1_added_38 : decode cX1_added 38 = .ok (.aload_n 0, 1) := dk_42 (dk_at dksX1_added_1 16 rfl rfl)
theorem dX1_added_39 : decode cX1_added 39 = .ok (.getfield 110, 3) := dk_180 0 110 (dk_at dksX1_added_1 17 rfl rfl)
theorem dX1_added_42 : decode cX1_added 42 = .ok (.if_icmp .ge 31, 3) := dk_162 0 31 (dk_at dksX1_added_1 20 rfl rfl)
theorem dX1_added_45 : decode cX1_added 45 = .ok (.iload 5, 2) := dk_21 5 (dk_at dksX1_added_2 0 rfl rfl)
theorem dX1_added_47 : decode cX1_added 47 = .ok (.aload_n 0, 1) := dk_42 (dk_at dksX1_added_2 2 rfl rfl)
theorem dX1_added_48 : decode cX1_added 48 = .ok (.getfield 227, 3) := dk_180 0 227 (dk_at dksX1_added_2 3 rfl rfl)
theorem dX1_added_51 : decode cX1_added 51 = .ok (.iload 6, 2) := dk_21 6 (dk_at dksX1_added_2 6 rfl rfl)
theorem dX1_added_53 : decode cX1_added 53 = .ok (.invokestatic 243, 3) := dk_184 0 243 (dk_at dksX1_added_2 8 rfl rfl)
theorem dX1_added_56 : decode cX1_added 56 = .ok (.ifCond .eq 7, 3) := dk_153 0 7 (dk_at dksX1_added_2 11 rfl rfl)
theorem dX1_added_59 : decode cX1_added 59 = .ok (.iconst 1, 1) := dk_4 (dk_at dksX1_added_2 14 rfl rfl)
theorem dX1_added_60 : decode cX1_added 60 = .ok (.goto 4, 3) := dk_167 0 4 (dk_at dksX1_added_2 15 rfl rfl)
theorem dX1_added_63 : decode cX1_added 63 = .ok (.iconst 0, 1) := dk_3 (dk_at dksX1_added_2 18 rfl rfl)
theorem dX1_added_64 : decode cX1_added 64 = .ok (.isub, 1) := dk_100 (dk_at dksX1_added_2 19 rfl rfl)
theorem dX1_added_65 : decode cX1_added 65 = .ok (.istore 5, 2) := dk_54 5 (dk_at dksX1_added_2 20 rfl rfl)
theorem dX1_added_67 : decode cX1_added 67 = .ok (.iinc 6 1, 3) := dk_132 6 1 (dk_at dksX1_added_3 0 rfl rfl)
theorem dX1_added_70 : decode cX1_added 70 = .ok (.goto (-34), 3) := dk_167 255 222 (dk_at dksX1_added_3 3 rfl rfl)
theorem dX1_added_73 : decode cX1_added 73 = .ok (.iload 4, 2) := dk_21 4 (dk_at dksX1_added_3 6 rfl rfl)
theorem dX1_added_75 : decode cX1_added 75 = .ok (.iload_n 2, 1) := dk_28 (dk_at dksX1_added_3 8 rfl rfl)
theorem dX1_added_76 : decode cX1_added 76 = .ok (.if_icmp .lt 7, 3) := dk_161 0 7 (dk_at dksX1_added_3 9 rfl rfl)
theorem dX1_added_79 : decode cX1_added 79 = .ok (.iconst 0, 1) := dk_3 (dk_at dksX1_added_3 12 rfl rfl)
theorem dX1_added_80 : decode cX1_added 80 = .ok (.goto 17, 3) := dk_167 0 17 (dk_at dksX1_added_3 13 rfl rfl)
theorem dX1_added_83 : decode cX1_added 83 = .ok (.iload 5, 2) := dk_21 5 (dk_at dksX1_added_3 16 rfl rfl)
theorem dX1_added_85 : decode cX1_added 85 = .ok (.iload_n 2, 1) := dk_28 (dk_at dksX1_added_3 18 rfl rfl)
theorem dX1_added_86 : decode cX1_added 86 = .ok (.iload 4, 2) := dk_21 4 (dk_at dksX1_added_3 19 rfl rfl)
theorem dX1_added_88 : decode cX1_added 88 = .ok (.isub, 1) := dk_100 (dk_at dksX1_added_3 21 rfl rfl)
theorem dX1_added_89 : decode cX1_added 89 = .ok (.iconst 1, 1) := dk_4 (dk_at dksX1_added_3 22 rfl rfl)
theorem dX1_added_90 : decode cX1_added 90 = .ok (.isub, 1) := dk_100 (dk_at dksX1_added_3 23 rfl rfl)
theorem dX1_added_91 : decode cX1_added 91 = .ok (.aload_n 0, 1) := dk_42 (dk_at dksX1_added_4 0 rfl rfl)
theorem dX1_added_92 : decode cX1_added 92 = .ok (.getfield 110, 3) := dk_180 0 110 (dk_at dksX1_added_4 1 rfl rfl)
theorem dX1_added_95 : decode cX1_added 95 = .ok (.imul, 1) := dk_104 (dk_at dksX1_added_4 4 rfl rfl)
theorem dX1_added_96 : decode cX1_added 96 = .ok (.iadd, 1) := dk_96 (dk_at dksX1_added_4 5 rfl rfl)
theorem dX1_added_97 : decode cX1_added 97 = .ok (.ireturn, 1) := dk_172 (dk_at dksX1_added_4 6 rfl rfl)
abbrev cX1_has : ByteArray := prog_8_method_3_code
def yX1_has : MethodName := ⟨RX1, "has", "(II)Z"⟩
def dkwX1_has_0 : List UInt8 := [26, 27, 122, 4, 126, 4, 160, 0, 7, 4, 167, 0, 4, 3, 172]
abbrev dktX1_has_0 : List UInt8 := dkwX1_has_0 ++ []
theorem dksX1_has_0 : cX1_has.data.toList.drop 0 = dktX1_has_0 := by decide +kernel
theorem dX1_has_0 : decode cX1_has 0 = .ok (.iload_n 0, 1) := dk_26 (dk_at dksX1_has_0 0 rfl rfl)
theorem dX1_has_1 : decode cX1_has 1 = .ok (.iload_n 1, 1) := dk_27 (dk_at dksX1_has_0 1 rfl rfl)
theorem dX1_has_2 : decode cX1_has 2 = .ok (.ishr, 1) := dk_122 (dk_at dksX1_has_0 2 rfl rfl)
theorem dX1_has_3 : decode cX1_has 3 = .ok (.iconst 1, 1) := dk_4 (dk_at dksX1_has_0 3 rfl rfl)
theorem dX1_has_4 : decode cX1_has 4 = .ok (.iand, 1) := dk_126 (dk_at dksX1_has_0 4 rfl rfl)
theorem dX1_has_5 : decode cX1_has 5 = .ok (.iconst 1, 1) := dk_4 (dk_at dksX1_has_0 5 rfl rfl)
theorem dX1_has_6 : decode cX1_has 6 = .ok (.if_icmp .ne 7, 3) := dk_160 0 7 (dk_at dksX1_has_0 6 rfl rfl)
theorem dX1_has_9 : decode cX1_has 9 = .ok (.iconst 1, 1) := dk_4 (dk_at dksX1_has_0 9 rfl rfl)
theorem dX1_has_10 : decode cX1_has 10 = .ok (.goto 4, 3) := dk_167 0 4 (dk_at dksX1_has_0 10 rfl rfl)
theorem dX1_has_13 : decode cX1_has 13 = .ok (.iconst 0, 1) := dk_3 (dk_at dksX1_has_0 13 rfl rfl)
theorem dX1_has_14 : decode cX1_has 14 = .ok (.ireturn, 1) := dk_172 (dk_at dksX1_has_0 14 rfl rfl)
abbrev cX1_alike : ByteArray := prog_8_method_75_code
def yX1_alike : MethodName := ⟨RX1, "alike", "(III)I"⟩
def dkwX1_alike_2 : List UInt8 := [4, 167, 0, 4, 3, 172]
abbrev dktX1_alike_2 : List UInt8 := dkwX1_alike_2 ++ []
def dkwX1_alike_1 : List UInt8 := [28, 182, 0, 255, 42, 27, 182, 1, 2, 54, 5, 21, 5, 16, 247, 159, 0, 9, 21, 5, 29, 164, 0, 7]
abbrev dktX1_alike_1 : List UInt8 := dkwX1_alike_1 ++ dktX1_alike_2
def dkwX1_alike_0 : List UInt8 := [42, 29, 3, 16, 40, 184, 0, 117, 27, 28, 182, 0, 188, 54, 4, 21, 4, 156, 0, 6, 21, 4, 172, 42]
abbrev dktX1_alike_0 : List UInt8 := dkwX1_alike_0 ++ dktX1_alike_1
theorem dksX1_alike_0 : cX1_alike.data.toList.drop 0 = dktX1_alike_0 := by decide +kernel
theorem dksX1_alike_1 : cX1_alike.data.toList.drop 24 = dktX1_alike_1 := dk_seg dksX1_alike_0 24 rfl rfl
theorem dksX1_alike_2 : cX1_alike.data.toList.drop 48 = dktX1_alike_2 := dk_seg dksX1_alike_1 24 rfl rfl
theorem dX1_alike_0 : decode cX1_alike 0 = .ok (.aload_n 0, 1) := dk_42 (dk_at dksX1_alike_0 0 rfl rfl)
theorem dX1_alike_1 : decode cX1_alike 1 = .ok (.iload_n 3, 1) := dk_29 (dk_at dksX1_alike_0 1 rfl rfl)
theorem dX1_alike_2 : decode cX1_alike 2 = .ok (.iconst 0, 1) := dk_3 (dk_at dksX1_alike_0 2 rfl rfl)
theorem dX1_alike_3 : decode cX1_alike 3 = .ok (.bipush 40, 2) := dk_16 40 (dk_at dksX1_alike_0 3 rfl rfl)
theorem dX1_alike_5 : decode cX1_alike 5 = .ok (.invokestatic 117, 3) := dk_184 0 117 (dk_at dksX1_alike_0 5 rfl rfl)
theorem dX1_alike_8 : decode cX1_alike 8 = .ok (.iload_n 1, 1) := dk_27 (dk_at dksX1_alike_0 8 rfl rfl)
theorem dX1_alike_9 : decode cX1_alike 9 = .ok (.iload_n 2, 1) := dk_28 (dk_at dksX1_alike_0 9 rfl rfl)
theorem dX1_alike_10 : decode cX1_alike 10 = .ok (.invokevirtual 188, 3) := dk_182 0 188 (dk_at dksX1_alike_0 10 rfl rfl)
theorem dX1_alike_13 : decode cX1_alike 13 = .ok (.istore 4, 2) := dk_54 4 (dk_at dksX1_alike_0 13 rfl rfl)
theorem dX1_alike_15 : decode cX1_alike 15 = .ok (.iload 4, 2) := dk_21 4 (dk_at dksX1_alike_0 15 rfl rfl)
theorem dX1_alike_17 : decode cX1_alike 17 = .ok (.ifCond .ge 6, 3) := dk_156 0 6 (dk_at dksX1_alike_0 17 rfl rfl)
theorem dX1_alike_20 : decode cX1_alike 20 = .ok (.iload 4, 2) := dk_21 4 (dk_at dksX1_alike_0 20 rfl rfl)
theorem dX1_alike_22 : decode cX1_alike 22 = .ok (.ireturn, 1) := dk_172 (dk_at dksX1_alike_0 22 rfl rfl)
theorem dX1_alike_23 : decode cX1_alike 23 = .ok (.aload_n 0, 1) := dk_42 (dk_at dksX1_alike_0 23 rfl rfl)
theorem dX1_alike_24 : decode cX1_alike 24 = .ok (.iload_n 2, 1) := dk_28 (dk_at dksX1_alike_1 0 rfl rfl)
theorem dX1_alike_25 : decode cX1_alike 25 = .ok (.invokevirtual 255, 3) := dk_182 0 255 (dk_at dksX1_alike_1 1 rfl rfl)
theorem dX1_alike_28 : decode cX1_alike 28 = .ok (.aload_n 0, 1) := dk_42 (dk_at dksX1_alike_1 4 rfl rfl)
theorem dX1_alike_29 : decode cX1_alike 29 = .ok (.iload_n 1, 1) := dk_27 (dk_at dksX1_alike_1 5 rfl rfl)
theorem dX1_alike_30 : decode cX1_alike 30 = .ok (.invokevirtual 258, 3) := dk_182 1 2 (dk_at dksX1_alike_1 6 rfl rfl)
theorem dX1_alike_33 : decode cX1_alike 33 = .ok (.istore 5, 2) := dk_54 5 (dk_at dksX1_alike_1 9 rfl rfl)
theorem dX1_alike_35 : decode cX1_alike 35 = .ok (.iload 5, 2) := dk_21 5 (dk_at dksX1_alike_1 11 rfl rfl)
theorem dX1_alike_37 : decode cX1_alike 37 = .ok (.bipush (-9), 2) := dk_16 247 (dk_at dksX1_alike_1 13 rfl rfl)
theorem dX1_alike_39 : decode cX1_alike 39 = .ok (.if_icmp .eq 9, 3) := dk_159 0 9 (dk_at dksX1_alike_1 15 rfl rfl)
theorem dX1_alike_42 : decode cX1_alike 42 = .ok (.iload 5, 2) := dk_21 5 (dk_at dksX1_alike_1 18 rfl rfl)
theorem dX1_alike_44 : decode cX1_alike 44 = .ok (.iload_n 3, 1) := dk_29 (dk_at dksX1_alike_1 20 rfl rfl)
theorem dX1_alike_45 : decode cX1_alike 45 = .ok (.if_icmp .le 7, 3) := dk_164 0 7 (dk_at dksX1_alike_1 21 rfl rfl)
theorem dX1_alike_48 : decode cX1_alike 48 = .ok (.iconst 1, 1) := dk_4 (dk_at dksX1_alike_2 0 rfl rfl)
theorem dX1_alike_49 : decode cX1_alike 49 = .ok (.goto 4, 3) := dk_167 0 4 (dk_at dksX1_alike_2 1 rfl rfl)
theorem dX1_alike_52 : decode cX1_alike 52 = .ok (.iconst 0, 1) := dk_3 (dk_at dksX1_alike_2 4 rfl rfl)
theorem dX1_alike_53 : decode cX1_alike 53 = .ok (.ireturn, 1) := dk_172 (dk_at dksX1_alike_2 5 rfl rfl)
abbrev cX1_layOther : ByteArray := prog_8_method_72_code
def yX1_layOther : MethodName := ⟨RX1, "layOther", "(I)V"⟩
def dkwX1_layOther_1 : List UInt8 := [28, 42, 27, 28, 182, 0, 148, 79, 132, 2, 1, 167, 255, 233, 177]
abbrev dktX1_layOther_1 : List UInt8 := dkwX1_layOther_1 ++ []
def dkwX1_layOther_0 : List UInt8 := [42, 42, 180, 0, 29, 27, 46, 181, 0, 246, 3, 61, 28, 42, 180, 0, 246, 162, 0, 21, 42, 180, 0, 82]
abbrev dktX1_layOther_0 : List UInt8 := dkwX1_layOther_0 ++ dktX1_layOther_1
theorem dksX1_layOther_0 : cX1_layOther.data.toList.drop 0 = dktX1_layOther_0 := by decide +kernel
theorem dksX1_layOther_1 : cX1_layOther.data.toList.drop 24 = dktX1_layOther_1 := dk_seg dksX1_layOther_0 24 rfl rfl
theorem dX1_layOther_0 : decode cX1_layOther 0 = .ok (.aload_n 0, 1) := dk_42 (dk_at dksX1_layOther_0 0 rfl rfl)
theorem dX1_layOther_1 : decode cX1_layOther 1 = .ok (.aload_n 0, 1) := dk_42 (dk_at dksX1_layOther_0 1 rfl rfl)
theorem dX1_layOther_2 : decode cX1_layOther 2 = .ok (.getfield 29, 3) := dk_180 0 29 (dk_at dksX1_layOther_0 2 rfl rfl)
theorem dX1_layOther_5 : decode cX1_layOther 5 = .ok (.iload_n 1, 1) := dk_27 (dk_at dksX1_layOther_0 5 rfl rfl)
theorem dX1_layOther_6 : decode cX1_layOther 6 = .ok (.iaload, 1) := dk_46 (dk_at dksX1_layOther_0 6 rfl rfl)
theorem dX1_layOther_7 : decode cX1_layOther 7 = .ok (.putfield 246, 3) := dk_181 0 246 (dk_at dksX1_layOther_0 7 rfl rfl)
theorem dX1_layOther_10 : decode cX1_layOther 10 = .ok (.iconst 0, 1) := dk_3 (dk_at dksX1_layOther_0 10 rfl rfl)
theorem dX1_layOther_11 : decode cX1_layOther 11 = .ok (.istore_n 2, 1) := dk_61 (dk_at dksX1_layOther_0 11 rfl rfl)
theorem dX1_layOther_12 : decode cX1_layOther 12 = .ok (.iload_n 2, 1) := dk_28 (dk_at dksX1_layOther_0 12 rfl rfl)
theorem dX1_layOther_13 : decode cX1_layOther 13 = .ok (.aload_n 0, 1) := dk_42 (dk_at dksX1_layOther_0 13 rfl rfl)
theorem dX1_layOther_14 : decode cX1_layOther 14 = .ok (.getfield 246, 3) := dk_180 0 246 (dk_at dksX1_layOther_0 14 rfl rfl)
theorem dX1_layOther_17 : decode cX1_layOther 17 = .ok (.if_icmp .ge 21, 3) := dk_162 0 21 (dk_at dksX1_layOther_0 17 rfl rfl)
theorem dX1_layOther_20 : decode cX1_layOther 20 = .ok (.aload_n 0, 1) := dk_42 (dk_at dksX1_layOther_0 20 rfl rfl)
theorem dX1_layOther_21 : decode cX1_layOther 21 = .ok (.getfield 82, 3) := dk_180 0 82 (dk_at dksX1_layOther_0 21 rfl rfl)
theorem dX1_layOther_24 : decode cX1_layOther 24 = .ok (.iload_n 2, 1) := dk_28 (dk_at dksX1_layOther_1 0 rfl rfl)
theorem dX1_layOther_25 : decode cX1_layOther 25 = .ok (.aload_n 0, 1) := dk_42 (dk_at dksX1_layOther_1 1 rfl rfl)
theorem dX1_layOther_26 : decode cX1_layOther 26 = .ok (.iload_n 1, 1) := dk_27 (dk_at dksX1_layOther_1 2 rfl rfl)
theorem dX1_layOther_27 : decode cX1_layOther 27 = .ok (.iload_n 2, 1) := dk_28 (dk_at dksX1_layOther_1 3 rfl rfl)
theorem dX1_layOther_28 : decode cX1_layOther 28 = .ok (.invokevirtual 148, 3) := dk_182 0 148 (dk_at dksX1_layOther_1 4 rfl rfl)
theorem dX1_layOther_31 : decode cX1_layOther 31 = .ok (.iastore, 1) := dk_79 (dk_at dksX1_layOther_1 7 rfl rfl)
theorem dX1_layOther_32 : decode cX1_layOther 32 = .ok (.iinc 2 1, 3) := dk_132 2 1 (dk_at dksX1_layOther_1 8 rfl rfl)
theorem dX1_layOther_35 : decode cX1_layOther 35 = .ok (.goto (-23), 3) := dk_167 255 233 (dk_at dksX1_layOther_1 11 rfl rfl)
theorem dX1_layOther_38 : decode cX1_layOther 38 = .ok (.return_, 1) := dk_177 (dk_at dksX1_layOther_1 14 rfl rfl)
abbrev cX1_partsFrom : ByteArray := prog_8_method_73_code
def yX1_partsFrom : MethodName := ⟨RX1, "partsFrom", "(I)I"⟩
def dkwX1_partsFrom_9 : List UInt8 := [21, 6, 79, 132, 2, 1, 132, 6, 1, 167, 255, 112, 132, 3, 1, 167, 255, 76, 16, 247, 172]
abbrev dktX1_partsFrom_9 : List UInt8 := dkwX1_partsFrom_9 ++ []
def dkwX1_partsFrom_8 : List UInt8 := [21, 9, 4, 84, 42, 180, 0, 69, 28, 21, 9, 79, 42, 180, 0, 72, 28, 29, 79, 42, 180, 0, 75, 28]
abbrev dktX1_partsFrom_8 : List UInt8 := dkwX1_partsFrom_8 ++ dktX1_partsFrom_9
def dkwX1_partsFrom_7 : List UInt8 := [54, 9, 21, 7, 16, 247, 159, 0, 47, 42, 180, 0, 78, 21, 9, 51, 154, 0, 37, 42, 180, 0, 78]
abbrev dktX1_partsFrom_7 : List UInt8 := dkwX1_partsFrom_7 ++ dktX1_partsFrom_8
def dkwX1_partsFrom_6 : List UInt8 := [21, 7, 16, 247, 160, 0, 7, 3, 167, 0, 15, 16, 41, 21, 7, 4, 96, 104, 21, 8, 96, 4, 96]
abbrev dktX1_partsFrom_6 : List UInt8 := dkwX1_partsFrom_6 ++ dktX1_partsFrom_7
def dkwX1_partsFrom_5 : List UInt8 := [21, 8, 16, 247, 160, 0, 7, 4, 167, 0, 4, 3, 159, 0, 11, 42, 29, 21, 6, 182, 0, 252, 172]
abbrev dktX1_partsFrom_5 : List UInt8 := dkwX1_partsFrom_5 ++ dktX1_partsFrom_6
def dkwX1_partsFrom_4 : List UInt8 := [54, 7, 42, 21, 5, 21, 6, 182, 0, 249, 54, 8, 21, 7, 16, 247, 160, 0, 7, 4, 167, 0, 4, 3]
abbrev dktX1_partsFrom_4 : List UInt8 := dkwX1_partsFrom_4 ++ dktX1_partsFrom_5
def dkwX1_partsFrom_3 : List UInt8 := [112, 54, 5, 3, 54, 6, 21, 6, 42, 180, 0, 110, 162, 0, 141, 42, 27, 21, 4, 21, 6, 182, 0, 206]
abbrev dktX1_partsFrom_3 : List UInt8 := dkwX1_partsFrom_3 ++ dktX1_partsFrom_4
def dkwX1_partsFrom_2 : List UInt8 := [29, 28, 162, 0, 181, 42, 180, 0, 69, 29, 46, 16, 41, 108, 54, 4, 42, 180, 0, 69, 29, 46, 16, 41]
abbrev dktX1_partsFrom_2 : List UInt8 := dkwX1_partsFrom_2 ++ dktX1_partsFrom_3
def dkwX1_partsFrom_1 : List UInt8 := [42, 180, 0, 69, 3, 3, 79, 42, 180, 0, 72, 3, 16, 247, 79, 42, 180, 0, 78, 3, 4, 84, 3, 62]
abbrev dktX1_partsFrom_1 : List UInt8 := dkwX1_partsFrom_1 ++ dktX1_partsFrom_2
def dkwX1_partsFrom_0 : List UInt8 := [3, 61, 28, 17, 6, 164, 162, 0, 16, 42, 180, 0, 78, 28, 3, 84, 132, 2, 1, 167, 255, 239, 4, 61]
abbrev dktX1_partsFrom_0 : List UInt8 := dkwX1_partsFrom_0 ++ dktX1_partsFrom_1
theorem dksX1_partsFrom_0 : cX1_partsFrom.data.toList.drop 0 = dktX1_partsFrom_0 := by decide +kernel
theorem dksX1_partsFrom_1 : cX1_partsFrom.data.toList.drop 24 = dktX1_partsFrom_1 := dk_seg dksX1_partsFrom_0 24 rfl rfl
theorem dksX1_partsFrom_2 : cX1_partsFrom.data.toList.drop 48 = dktX1_partsFrom_2 := dk_seg dksX1_partsFrom_1 24 rfl rfl
theorem dksX1_partsFrom_3 : cX1_partsFrom.data.toList.drop 72 = dktX1_partsFrom_3 := dk_seg dksX1_partsFrom_2 24 rfl rfl
theorem dksX1_partsFrom_4 : cX1_partsFrom.data.toList.drop 96 = dktX1_partsFrom_4 := dk_seg dksX1_partsFrom_3 24 rfl rfl
theorem dksX1_partsFrom_5 : cX1_partsFrom.data.toList.drop 120 = dktX1_partsFrom_5 := dk_seg dksX1_partsFrom_4 24 rfl rfl
theorem dksX1_partsFrom_6 : cX1_partsFrom.data.toList.drop 143 = dktX1_partsFrom_6 := dk_seg dksX1_partsFrom_5 23 rfl rfl
theorem dksX1_partsFrom_7 : cX1_partsFrom.data.toList.drop 166 = dktX1_partsFrom_7 := dk_seg dksX1_partsFrom_6 23 rfl rfl
theorem dksX1_partsFrom_8 : cX1_partsFrom.data.toList.drop 189 = dktX1_partsFrom_8 := dk_seg dksX1_partsFrom_7 23 rfl rfl
theorem dksX1_partsFrom_9 : cX1_partsFrom.data.toList.drop 213 = dktX1_partsFrom_9 := dk_seg dksX1_partsFrom_8 24 rfl rfl
theorem dX1_partsFrom_0 : decode cX1_partsFrom 0 = .ok (.iconst 0, 1) := dk_3 (dk_at dksX1_partsFrom_0 0 rfl rfl)
theorem dX1_partsFrom_1 : decode cX1_partsFrom 1 = .ok (.istore_n 2, 1) := dk_61 (dk_at dksX1_partsFrom_0 1 rfl rfl)
theorem dX1_partsFrom_2 : decode cX1_partsFrom 2 = .ok (.iload_n 2, 1) := dk_28 (dk_at dksX1_partsFrom_0 2 rfl rfl)
theorem dX1_partsFrom_3 : decode cX1_partsFrom 3 = .ok (.sipush 1700, 3) := dk_17 6 164 (dk_at dksX1_partsFrom_0 3 rfl rfl)
theorem dX1_partsFrom_6 : decode cX1_partsFrom 6 = .ok (.if_icmp .ge 16, 3) := dk_162 0 16 (dk_at dksX1_partsFrom_0 6 rfl rfl)
theorem dX1_partsFrom_9 : decode cX1_partsFrom 9 = .ok (.aload_n 0, 1) := dk_42 (dk_at dksX1_partsFrom_0 9 rfl rfl)
theorem dX1_partsFrom_10 : decode cX1_partsFrom 10 = .ok (.getfield 78, 3) := dk_180 0 78 (dk_at dksX1_partsFrom_0 10 rfl rfl)
theorem dX1_partsFrom_13 : decode cX1_partsFrom 13 = .ok (.iload_n 2, 1) := dk_28 (dk_at dksX1_partsFrom_0 13 rfl rfl)
theorem dX1_partsFrom_14 : decode cX1_partsFrom 14 = .ok (.iconst 0, 1) := dk_3 (dk_at dksX1_partsFrom_0 14 rfl rfl)
theorem dX1_partsFrom_15 : decode cX1_partsFrom 15 = .ok (.bastore, 1) := dk_84 (dk_at dksX1_partsFrom_0 15 rfl rfl)
theorem dX1_partsFrom_16 : decode cX1_partsFrom 16 = .ok (.iinc 2 1, 3) := dk_132 2 1 (dk_at dksX1_partsFrom_0 16 rfl rfl)
theorem dX1_partsFrom_19 : decode cX1_partsFrom 19 = .ok (.goto (-17), 3) := dk_167 255 239 (dk_at dksX1_partsFrom_0 19 rfl rfl)
theorem dX1_partsFrom_22 : decode cX1_partsFrom 22 = .ok (.iconst 1, 1) := dk_4 (dk_at dksX1_partsFrom_0 22 rfl rfl)
theorem dX1_partsFrom_23 : decode cX1_partsFrom 23 = .ok (.istore_n 2, 1) := dk_61 (dk_at dksX1_partsFrom_0 23 rfl rfl)
theorem dX1_partsFrom_24 : decode cX1_partsFrom 24 = .ok (.aload_n 0, 1) := dk_42 (dk_at dksX1_partsFrom_1 0 rfl rfl)
theorem dX1_partsFrom_25 : decode cX1_partsFrom 25 = .ok (.getfield 69, 3) := dk_180 0 69 (dk_at dksX1_partsFrom_1 1 rfl rfl)
theorem dX1_partsFrom_28 : decode cX1_partsFrom 28 = .ok (.iconst 0, 1) := dk_3 (dk_at dksX1_partsFrom_1 4 rfl rfl)
theorem dX1_partsFrom_29 : decode cX1_partsFrom 29 = .ok (.iconst 0, 1) := dk_3 (dk_at dksX1_partsFrom_1 5 rfl rfl)
theorem dX1_partsFrom_30 : decode cX1_partsFrom 30 = .ok (.iastore, 1) := dk_79 (dk_at dksX1_partsFrom_1 6 rfl rfl)
theorem dX1_partsFrom_31 : decode cX1_partsFrom 31 = .ok (.aload_n 0, 1) := dk_42 (dk_at dksX1_partsFrom_1 7 rfl rfl)
theorem dX1_partsFrom_32 : decode cX1_partsFrom 32 = .ok (.getfield 72, 3) := dk_180 0 72 (dk_at dksX1_partsFrom_1 8 rfl rfl)
theorem dX1_partsFrom_35 : decode cX1_partsFrom 35 = .ok (.iconst 0, 1) := dk_3 (dk_at dksX1_partsFrom_1 11 rfl rfl)
theorem dX1_partsFrom_36 : decode cX1_partsFrom 36 = .ok (.bipush (-9), 2) := dk_16 247 (dk_at dksX1_partsFrom_1 12 rfl rfl)
theorem dX1_partsFrom_38 : decode cX1_partsFrom 38 = .ok (.iastore, 1) := dk_79 (dk_at dksX1_partsFrom_1 14 rfl rfl)
theorem dX1_partsFrom_39 : decode cX1_partsFrom 39 = .ok (.aload_n 0, 1) := dk_42 (dk_at dksX1_partsFrom_1 15 rfl rfl)
theorem dX1_partsFrom_40 : decode cX1_partsFrom 40 = .ok (.getfield 78, 3) := dk_180 0 78 (dk_at dksX1_partsFrom_1 16 rfl rfl)
theorem dX1_partsFrom_43 : decode cX1_partsFrom 43 = .ok (.iconst 0, 1) := dk_3 (dk_at dksX1_partsFrom_1 19 rfl rfl)
theorem dX1_partsFrom_44 : decode cX1_partsFrom 44 = .ok (.iconst 1, 1) := dk_4 (dk_at dksX1_partsFrom_1 20 rfl rfl)
theorem dX1_partsFrom_45 : decode cX1_partsFrom 45 = .ok (.bastore, 1) := dk_84 (dk_at dksX1_partsFrom_1 21 rfl rfl)
theorem dX1_partsFrom_46 : decode cX1_partsFrom 46 = .ok (.iconst 0, 1) := dk_3 (dk_at dksX1_partsFrom_1 22 rfl rfl)
theorem dX1_partsFrom_47 : decode cX1_partsFrom 47 = .ok (.istore_n 3, 1) := dk_62 (dk_at dksX1_partsFrom_1 23 rfl rfl)
theorem dX1_partsFrom_48 : decode cX1_partsFrom 48 = .ok (.iload_n 3, 1) := dk_29 (dk_at dksX1_partsFrom_2 0 rfl rfl)
theorem dX1_partsFrom_49 : decode cX1_partsFrom 49 = .ok (.iload_n 2, 1) := dk_28 (dk_at dksX1_partsFrom_2 1 rfl rfl)
theorem dX1_partsFrom_50 : decode cX1_partsFrom 50 = .ok (.if_icmp .ge 181, 3) := dk_162 0 181 (dk_at dksX1_partsFrom_2 2 rfl rfl)
theorem dX1_partsFrom_53 : decode cX1_partsFrom 53 = .ok (.aload_n 0, 1) := dk_42 (dk_at dksX1_partsFrom_2 5 rfl rfl)
theorem dX1_partsFrom_54 : decode cX1_partsFrom 54 = .ok (.getfield 69, 3) := dk_180 0 69 (dk_at dksX1_partsFrom_2 6 rfl rfl)
theorem dX1_partsFrom_57 : decode cX1_partsFrom 57 = .ok (.iload_n 3, 1) := dk_29 (dk_at dksX1_partsFrom_2 9 rfl rfl)
theorem dX1_partsFrom_58 : decode cX1_partsFrom 58 = .ok (.iaload, 1) := dk_46 (dk_at dksX1_partsFrom_2 10 rfl rfl)
theorem dX1_partsFrom_59 : decode cX1_partsFrom 59 = .ok (.bipush 41, 2) := dk_16 41 (dk_at dksX1_partsFrom_2 11 rfl rfl)
theorem dX1_partsFrom_61 : decode cX1_partsFrom 61 = .ok (.idiv, 1) := dk_108 (dk_at dksX1_partsFrom_2 13 rfl rfl)
theorem dX1_partsFrom_62 : decode cX1_partsFrom 62 = .ok (.istore 4, 2) := dk_54 4 (dk_at dksX1_partsFrom_2 14 rfl rfl)
theorem dX1_partsFrom_64 : decode cX1_partsFrom 64 = .ok (.aload_n 0, 1) := dk_42 (dk_at dksX1_partsFrom_2 16 rfl rfl)
theorem dX1_partsFrom_65 : decode cX1_partsFrom 65 = .ok (.getfield 69, 3) := dk_180 0 69 (dk_at dksX1_partsFrom_2 17 rfl rfl)
theorem dX1_partsFrom_68 : decode cX1_partsFrom 68 = .ok (.iload_n 3, 1) := dk_29 (dk_at dksX1_partsFrom_2 20 rfl rfl)
theorem dX1_partsFrom_69 : decode cX1_partsFrom 69 = .ok (.iaload, 1) := dk_46 (dk_at dksX1_partsFrom_2 21 rfl rfl)
theorem dX1_partsFrom_70 : decode cX1_partsFrom 70 = .ok (.bipush 41, 2) := dk_16 41 (dk_at dksX1_partsFrom_2 22 rfl rfl)
theorem dX1_partsFrom_72 : decode cX1_partsFrom 72 = .ok (.irem, 1) := dk_112 (dk_at dksX1_partsFrom_3 0 rfl rfl)
theorem dX1_partsFrom_73 : decode cX1_partsFrom 73 = .ok (.istore 5, 2) := dk_54 5 (dk_at dksX1_partsFrom_3 1 rfl rfl)
theorem dX1_partsFrom_75 : decode cX1_partsFrom 75 = .ok (.iconst 0, 1) := dk_3 (dk_at dksX1_partsFrom_3 3 rfl rfl)
theorem dX1_partsFrom_76 : decode cX1_partsFrom 76 = .ok (.istore 6, 2) := dk_54 6 (dk_at dksX1_partsFrom_3 4 rfl rfl)
theorem dX1_partsFrom_78 : decode cX1_partsFrom 78 = .ok (.iload 6, 2) := dk_21 6 (dk_at dksX1_partsFrom_3 6 rfl rfl)
theorem dX1_partsFrom_80 : decode cX1_partsFrom 80 = .ok (.aload_n 0, 1) := dk_42 (dk_at dksX1_partsFrom_3 8 rfl rfl)
theorem dX1_partsFrom_81 : decode cX1_partsFrom 81 = .ok (.getfield 110, 3) := dk_180 0 110 (dk_at dksX1_partsFrom_3 9 rfl rfl)
theorem dX1_partsFrom_84 : decode cX1_partsFrom 84 = .ok (.if_icmp .ge 141, 3) := dk_162 0 141 (dk_at dksX1_partsFrom_3 12 rfl rfl)
theorem dX1_partsFrom_87 : decode cX1_partsFrom 87 = .ok (.aload_n 0, 1) := dk_42 (dk_at dksX1_partsFrom_3 15 rfl rfl)
theorem dX1_partsFrom_88 : decode cX1_partsFrom 88 = .ok (.iload_n 1, 1) := dk_27 (dk_at dksX1_partsFrom_3 16 rfl rfl)
theorem dX1_partsFrom_89 : decode cX1_partsFrom 89 = .ok (.iload 4, 2) := dk_21 4 (dk_at dksX1_partsFrom_3 17 rfl rfl)
theorem dX1_partsFrom_91 : decode cX1_partsFrom 91 = .ok (.iload 6, 2) := dk_21 6 (dk_at dksX1_partsFrom_3 19 rfl rfl)
theorem dX1_partsFrom_93 : decode cX1_partsFrom 93 = .ok (.invokevirtual 206, 3) := dk_182 0 206 (dk_at dksX1_partsFrom_3 21 rfl rfl)
theorem dX1_partsFrom_96 : decode cX1_partsFrom 96 = .ok (.istore 7, 2) := dk_54 7 (dk_at dksX1_partsFrom_4 0 rfl rfl)
theorem dX1_partsFrom_98 : decode cX1_partsFrom 98 = .ok (.aload_n 0, 1) := dk_42 (dk_at dksX1_partsFrom_4 2 rfl rfl)
theorem dX1_partsFrom_99 : decode cX1_partsFrom 99 = .ok (.iload 5, 2) := dk_21 5 (dk_at dksX1_partsFrom_4 3 rfl rfl)
theorem dX1_partsFrom_101 : decode cX1_partsFrom 101 = .ok (.iload 6, 2) := dk_21 6 (dk_at dksX1_partsFrom_4 5 rfl rfl)
theorem dX1_partsFrom_103 : decode cX1_partsFrom 103 = .ok (.invokevirtual 249, 3) := dk_182 0 249 (dk_at dksX1_partsFrom_4 7 rfl rfl)
theorem dX1_partsFrom_106 : decode cX1_partsFrom 106 = .ok (.istore 8, 2) := dk_54 8 (dk_at dksX1_partsFrom_4 10 rfl rfl)
theorem dX1_partsFrom_108 : decode cX1_partsFrom 108 = .ok (.iload 7, 2) := dk_21 7 (dk_at dksX1_partsFrom_4 12 rfl rfl)
theorem dX1_partsFrom_110 : decode cX1_partsFrom 110 = .ok (.bipush (-9), 2) := dk_16 247 (dk_at dksX1_partsFrom_4 14 rfl rfl)
theorem dX1_partsFrom_112 : decode cX1_partsFrom 112 = .ok (.if_icmp .ne 7, 3) := dk_160 0 7 (dk_at dksX1_partsFrom_4 16 rfl rfl)
theorem dX1_partsFrom_115 : decode cX1_partsFrom 115 = .ok (.iconst 1, 1) := dk_4 (dk_at dksX1_partsFrom_4 19 rfl rfl)
theorem dX1_partsFrom_116 : decode cX1_partsFrom 116 = .ok (.goto 4, 3) := dk_167 0 4 (dk_at dksX1_partsFrom_4 20 rfl rfl)
theorem dX1_partsFrom_119 : decode cX1_partsFrom 119 = .ok (.iconst 0, 1) := dk_3 (dk_at dksX1_partsFrom_4 23 rfl rfl)
theorem dX1_partsFrom_120 : decode cX1_partsFrom 120 = .ok (.iload 8, 2) := dk_21 8 (dk_at dksX1_partsFrom_5 0 rfl rfl)
theorem dX1_partsFrom_122 : decode cX1_partsFrom 122 = .ok (.bipush (-9), 2) := dk_16 247 (dk_at dksX1_partsFrom_5 2 rfl rfl)
theorem dX1_partsFrom_124 : decode cX1_partsFrom 124 = .ok (.if_icmp .ne 7, 3) := dk_160 0 7 (dk_at dksX1_partsFrom_5 4 rfl rfl)
theorem dX1_partsFrom_127 : decode cX1_partsFrom 127 = .ok (.iconst 1, 1) := dk_4 (dk_at dksX1_partsFrom_5 7 rfl rfl)
theorem dX1_partsFrom_128 : decode cX1_partsFrom 128 = .ok (.goto 4, 3) := dk_167 0 4 (dk_at dksX1_partsFrom_5 8 rfl rfl)
theorem dX1_partsFrom_131 : decode cX1_partsFrom 131 = .ok (.iconst 0, 1) := dk_3 (dk_at dksX1_partsFrom_5 11 rfl rfl)
theorem dX1_partsFrom_132 : decode cX1_partsFrom 132 = .ok (.if_icmp .eq 11, 3) := dk_159 0 11 (dk_at dksX1_partsFrom_5 12 rfl rfl)
theorem dX1_partsFrom_135 : decode cX1_partsFrom 135 = .ok (.aload_n 0, 1) := dk_42 (dk_at dksX1_partsFrom_5 15 rfl rfl)
theorem dX1_partsFrom_136 : decode cX1_partsFrom 136 = .ok (.iload_n 3, 1) := dk_29 (dk_at dksX1_partsFrom_5 16 rfl rfl)
theorem dX1_partsFrom_137 : decode cX1_partsFrom 137 = .ok (.iload 6, 2) := dk_21 6 (dk_at dksX1_partsFrom_5 17 rfl rfl)
theorem dX1_partsFrom_139 : decode cX1_partsFrom 139 = .ok (.invokevirtual 252, 3) := dk_182 0 252 (dk_at dksX1_partsFrom_5 19 rfl rfl)
theorem dX1_partsFrom_142 : decode cX1_partsFrom 142 = .ok (.ireturn, 1) := dk_172 (dk_at dksX1_partsFrom_5 22 rfl rfl)
theorem dX1_partsFrom_143 : decode cX1_partsFrom 143 = .ok (.iload 7, 2) := dk_21 7 (dk_at dksX1_partsFrom_6 0 rfl rfl)
theorem dX1_partsFrom_145 : decode cX1_partsFrom 145 = .ok (.bipush (-9), 2) := dk_16 247 (dk_at dksX1_partsFrom_6 2 rfl rfl)
theorem dX1_partsFrom_147 : decode cX1_partsFrom 147 = .ok (.if_icmp .ne 7, 3) := dk_160 0 7 (dk_at dksX1_partsFrom_6 4 rfl rfl)
theorem dX1_partsFrom_150 : decode cX1_partsFrom 150 = .ok (.iconst 0, 1) := dk_3 (dk_at dksX1_partsFrom_6 7 rfl rfl)
theorem dX1_partsFrom_151 : decode cX1_partsFrom 151 = .ok (.goto 15, 3) := dk_167 0 15 (dk_at dksX1_partsFrom_6 8 rfl rfl)
theorem dX1_partsFrom_154 : decode cX1_partsFrom 154 = .ok (.bipush 41, 2) := dk_16 41 (dk_at dksX1_partsFrom_6 11 rfl rfl)
theorem dX1_partsFrom_156 : decode cX1_partsFrom 156 = .ok (.iload 7, 2) := dk_21 7 (dk_at dksX1_partsFrom_6 13 rfl rfl)
theorem dX1_partsFrom_158 : decode cX1_partsFrom 158 = .ok (.iconst 1, 1) := dk_4 (dk_at dksX1_partsFrom_6 15 rfl rfl)
theorem dX1_partsFrom_159 : decode cX1_partsFrom 159 = .ok (.iadd, 1) := dk_96 (dk_at dksX1_partsFrom_6 16 rfl rfl)
theorem dX1_partsFrom_160 : decode cX1_partsFrom 160 = .ok (.imul, 1) := dk_104 (dk_at dksX1_partsFrom_6 17 rfl rfl)
theorem dX1_partsFrom_161 : decode cX1_partsFrom 161 = .ok (.iload 8, 2) := dk_21 8 (dk_at dksX1_partsFrom_6 18 rfl rfl)
theorem dX1_partsFrom_163 : decode cX1_partsFrom 163 = .ok (.iadd, 1) := dk_96 (dk_at dksX1_partsFrom_6 20 rfl rfl)
theorem dX1_partsFrom_164 : decode cX1_partsFrom 164 = .ok (.iconst 1, 1) := dk_4 (dk_at dksX1_partsFrom_6 21 rfl rfl)
theorem dX1_partsFrom_165 : decode cX1_partsFrom 165 = .ok (.iadd, 1) := dk_96 (dk_at dksX1_partsFrom_6 22 rfl rfl)
theorem dX1_partsFrom_166 : decode cX1_partsFrom 166 = .ok (.istore 9, 2) := dk_54 9 (dk_at dksX1_partsFrom_7 0 rfl rfl)
theorem dX1_partsFrom_168 : decode cX1_partsFrom 168 = .ok (.iload 7, 2) := dk_21 7 (dk_at dksX1_partsFrom_7 2 rfl rfl)
theorem dX1_partsFrom_170 : decode cX1_partsFrom 170 = .ok (.bipush (-9), 2) := dk_16 247 (dk_at dksX1_partsFrom_7 4 rfl rfl)
theorem dX1_partsFrom_172 : decode cX1_partsFrom 172 = .ok (.if_icmp .eq 47, 3) := dk_159 0 47 (dk_at dksX1_partsFrom_7 6 rfl rfl)
theorem dX1_partsFrom_175 : decode cX1_partsFrom 175 = .ok (.aload_n 0, 1) := dk_42 (dk_at dksX1_partsFrom_7 9 rfl rfl)
theorem dX1_partsFrom_176 : decode cX1_partsFrom 176 = .ok (.getfield 78, 3) := dk_180 0 78 (dk_at dksX1_partsFrom_7 10 rfl rfl)
theorem dX1_partsFrom_179 : decode cX1_partsFrom 179 = .ok (.iload 9, 2) := dk_21 9 (dk_at dksX1_partsFrom_7 13 rfl rfl)
theorem dX1_partsFrom_181 : decode cX1_partsFrom 181 = .ok (.baload, 1) := dk_51 (dk_at dksX1_partsFrom_7 15 rfl rfl)
theorem dX1_partsFrom_182 : decode cX1_partsFrom 182 = .ok (.ifCond .ne 37, 3) := dk_154 0 37 (dk_at dksX1_partsFrom_7 16 rfl rfl)
theorem dX1_partsFrom_185 : decode cX1_partsFrom 185 = .ok (.aload_n 0, 1) := dk_42 (dk_at dksX1_partsFrom_7 19 rfl rfl)
theorem dX1_partsFrom_186 : decode cX1_partsFrom 186 = .ok (.getfield 78, 3) := dk_180 0 78 (dk_at dksX1_partsFrom_7 20 rfl rfl)
theorem dX1_partsFrom_189 : decode cX1_partsFrom 189 = .ok (.iload 9, 2) := dk_21 9 (dk_at dksX1_partsFrom_8 0 rfl rfl)
theorem dX1_partsFrom_191 : decode cX1_partsFrom 191 = .ok (.iconst 1, 1) := dk_4 (dk_at dksX1_partsFrom_8 2 rfl rfl)
theorem dX1_partsFrom_192 : decode cX1_partsFrom 192 = .ok (.bastore, 1) := dk_84 (dk_at dksX1_partsFrom_8 3 rfl rfl)
theorem dX1_partsFrom_193 : decode cX1_partsFrom 193 = .ok (.aload_n 0, 1) := dk_42 (dk_at dksX1_partsFrom_8 4 rfl rfl)
theorem dX1_partsFrom_194 : decode cX1_partsFrom 194 = .ok (.getfield 69, 3) := dk_180 0 69 (dk_at dksX1_partsFrom_8 5 rfl rfl)
theorem dX1_partsFrom_197 : decode cX1_partsFrom 197 = .ok (.iload_n 2, 1) := dk_28 (dk_at dksX1_partsFrom_8 8 rfl rfl)
theorem dX1_partsFrom_198 : decode cX1_partsFrom 198 = .ok (.iload 9, 2) := dk_21 9 (dk_at dksX1_partsFrom_8 9 rfl rfl)
theorem dX1_partsFrom_200 : decode cX1_partsFrom 200 = .ok (.iastore, 1) := dk_79 (dk_at dksX1_partsFrom_8 11 rfl rfl)
theorem dX1_partsFrom_201 : decode cX1_partsFrom 201 = .ok (.aload_n 0, 1) := dk_42 (dk_at dksX1_partsFrom_8 12 rfl rfl)
theorem dX1_partsFrom_202 : decode cX1_partsFrom 202 = .ok (.getfield 72, 3) := dk_180 0 72 (dk_at dksX1_partsFrom_8 13 rfl rfl)
theorem dX1_partsFrom_205 : decode cX1_partsFrom 205 = .ok (.iload_n 2, 1) := dk_28 (dk_at dksX1_partsFrom_8 16 rfl rfl)
theorem dX1_partsFrom_206 : decode cX1_partsFrom 206 = .ok (.iload_n 3, 1) := dk_29 (dk_at dksX1_partsFrom_8 17 rfl rfl)
theorem dX1_partsFrom_207 : decode cX1_partsFrom 207 = .ok (.iastore, 1) := dk_79 (dk_at dksX1_partsFrom_8 18 rfl rfl)
theorem dX1_partsFrom_208 : decode cX1_partsFrom 208 = .ok (.aload_n 0, 1) := dk_42 (dk_at dksX1_partsFrom_8 19 rfl rfl)
theorem dX1_partsFrom_209 : decode cX1_partsFrom 209 = .ok (.getfield 75, 3) := dk_180 0 75 (dk_at dksX1_partsFrom_8 20 rfl rfl)
theorem dX1_partsFrom_212 : decode cX1_partsFrom 212 = .ok (.iload_n 2, 1) := dk_28 (dk_at dksX1_partsFrom_8 23 rfl rfl)
theorem dX1_partsFrom_213 : decode cX1_partsFrom 213 = .ok (.iload 6, 2) := dk_21 6 (dk_at dksX1_partsFrom_9 0 rfl rfl)
theorem dX1_partsFrom_215 : decode cX1_partsFrom 215 = .ok (.iastore, 1) := dk_79 (dk_at dksX1_partsFrom_9 2 rfl rfl)
theorem dX1_partsFrom_216 : decode cX1_partsFrom 216 = .ok (.iinc 2 1, 3) := dk_132 2 1 (dk_at dksX1_partsFrom_9 3 rfl rfl)
theorem dX1_partsFrom_219 : decode cX1_partsFrom 219 = .ok (.iinc 6 1, 3) := dk_132 6 1 (dk_at dksX1_partsFrom_9 6 rfl rfl)
theorem dX1_partsFrom_222 : decode cX1_partsFrom 222 = .ok (.goto (-144), 3) := dk_167 255 112 (dk_at dksX1_partsFrom_9 9 rfl rfl)
theorem dX1_partsFrom_225 : decode cX1_partsFrom 225 = .ok (.iinc 3 1, 3) := dk_132 3 1 (dk_at dksX1_partsFrom_9 12 rfl rfl)
theorem dX1_partsFrom_228 : decode cX1_partsFrom 228 = .ok (.goto (-180), 3) := dk_167 255 76 (dk_at dksX1_partsFrom_9 15 rfl rfl)
theorem dX1_partsFrom_231 : decode cX1_partsFrom 231 = .ok (.bipush (-9), 2) := dk_16 247 (dk_at dksX1_partsFrom_9 18 rfl rfl)
theorem dX1_partsFrom_233 : decode cX1_partsFrom 233 = .ok (.ireturn, 1) := dk_172 (dk_at dksX1_partsFrom_9 20 rfl rfl)
abbrev cX1_nextOther : ByteArray := prog_8_method_71_code
def yX1_nextOther : MethodName := ⟨RX1, "nextOther", "(II)I"⟩
def dkwX1_nextOther_1 : List UInt8 := [132, 3, 1, 167, 255, 233, 16, 247, 172]
abbrev dktX1_nextOther_1 : List UInt8 := dkwX1_nextOther_1 ++ []
def dkwX1_nextOther_0 : List UInt8 := [27, 62, 29, 42, 180, 0, 246, 162, 0, 21, 42, 180, 0, 82, 29, 46, 28, 160, 0, 5, 29, 172]
abbrev dktX1_nextOther_0 : List UInt8 := dkwX1_nextOther_0 ++ dktX1_nextOther_1
theorem dksX1_nextOther_0 : cX1_nextOther.data.toList.drop 0 = dktX1_nextOther_0 := by decide +kernel
theorem dksX1_nextOther_1 : cX1_nextOther.data.toList.drop 22 = dktX1_nextOther_1 := dk_seg dksX1_nextOther_0 22 rfl rfl
theorem dX1_nextOther_0 : decode cX1_nextOther 0 = .ok (.iload_n 1, 1) := dk_27 (dk_at dksX1_nextOther_0 0 rfl rfl)
theorem dX1_nextOther_1 : decode cX1_nextOther 1 = .ok (.istore_n 3, 1) := dk_62 (dk_at dksX1_nextOther_0 1 rfl rfl)
theorem dX1_nextOther_2 : decode cX1_nextOther 2 = .ok (.iload_n 3, 1) := dk_29 (dk_at dksX1_nextOther_0 2 rfl rfl)
theorem dX1_nextOther_3 : decode cX1_nextOther 3 = .ok (.aload_n 0, 1) := dk_42 (dk_at dksX1_nextOther_0 3 rfl rfl)
theorem dX1_nextOther_4 : decode cX1_nextOther 4 = .ok (.getfield 246, 3) := dk_180 0 246 (dk_at dksX1_nextOther_0 4 rfl rfl)
theorem dX1_nextOther_7 : decode cX1_nextOther 7 = .ok (.if_icmp .ge 21, 3) := dk_162 0 21 (dk_at dksX1_nextOther_0 7 rfl rfl)
theorem dX1_nextOther_10 : decode cX1_nextOther 10 = .ok (.aload_n 0, 1) := dk_42 (dk_at dksX1_nextOther_0 10 rfl rfl)
theorem dX1_nextOther_11 : decode cX1_nextOther 11 = .ok (.getfield 82, 3) := dk_180 0 82 (dk_at dksX1_nextOther_0 11 rfl rfl)
theorem dX1_nextOther_14 : decode cX1_nextOther 14 = .ok (.iload_n 3, 1) := dk_29 (dk_at dksX1_nextOther_0 14 rfl rfl)
theorem dX1_nextOther_15 : decode cX1_nextOther 15 = .ok (.iaload, 1) := dk_46 (dk_at dksX1_nextOther_0 15 rfl rfl)
theorem dX1_nextOther_16 : decode cX1_nextOther 16 = .ok (.iload_n 2, 1) := dk_28 (dk_at dksX1_nextOther_0 16 rfl rfl)
theorem dX1_nextOther_17 : decode cX1_nextOther 17 = .ok (.if_icmp .ne 5, 3) := dk_160 0 5 (dk_at dksX1_nextOther_0 17 rfl rfl)
theorem dX1_nextOther_20 : decode cX1_nextOther 20 = .ok (.iload_n 3, 1) := dk_29 (dk_at dksX1_nextOther_0 20 rfl rfl)
theorem dX1_nextOther_21 : decode cX1_nextOther 21 = .ok (.ireturn, 1) := dk_172 (dk_at dksX1_nextOther_0 21 rfl rfl)
theorem dX1_nextOther_22 : decode cX1_nextOther 22 = .ok (.iinc 3 1, 3) := dk_132 3 1 (dk_at dksX1_nextOther_1 0 rfl rfl)
theorem dX1_nextOther_25 : decode cX1_nextOther 25 = .ok (.goto (-23), 3) := dk_167 255 233 (dk_at dksX1_nextOther_1 3 rfl rfl)
theorem dX1_nextOther_28 : decode cX1_nextOther 28 = .ok (.bipush (-9), 2) := dk_16 247 (dk_at dksX1_nextOther_1 6 rfl rfl)
theorem dX1_nextOther_30 : decode cX1_nextOther 30 = .ok (.ireturn, 1) := dk_172 (dk_at dksX1_nextOther_1 8 rfl rfl)
abbrev cX1_layPart : ByteArray := prog_8_method_74_code
def yX1_layPart : MethodName := ⟨RX1, "layPart", "(II)I"⟩
def dkwX1_layPart_4 : List UInt8 := [21, 5, 46, 54, 5, 167, 255, 218, 29, 172]
abbrev dktX1_layPart_4 : List UInt8 := dkwX1_layPart_4 ++ []
def dkwX1_layPart_3 : List UInt8 := [159, 0, 32, 132, 4, 255, 42, 180, 0, 44, 21, 4, 42, 180, 0, 75, 21, 5, 46, 79, 42, 180, 0, 72]
abbrev dktX1_layPart_3 : List UInt8 := dkwX1_layPart_3 ++ dktX1_layPart_4
def dkwX1_layPart_2 : List UInt8 := [162, 0, 11, 42, 180, 0, 44, 21, 4, 28, 79, 27, 54, 5, 42, 180, 0, 72, 21, 5, 46, 16, 247]
abbrev dktX1_layPart_2 : List UInt8 := dkwX1_layPart_2 ++ dktX1_layPart_3
def dkwX1_layPart_1 : List UInt8 := [21, 4, 46, 54, 4, 167, 255, 232, 42, 29, 181, 0, 151, 29, 4, 100, 54, 4, 21, 4, 16, 40]
abbrev dktX1_layPart_1 : List UInt8 := dkwX1_layPart_1 ++ dktX1_layPart_2
def dkwX1_layPart_0 : List UInt8 := [4, 62, 27, 54, 4, 42, 180, 0, 72, 21, 4, 46, 16, 247, 159, 0, 18, 132, 3, 1, 42, 180, 0, 72]
abbrev dktX1_layPart_0 : List UInt8 := dkwX1_layPart_0 ++ dktX1_layPart_1
theorem dksX1_layPart_0 : cX1_layPart.data.toList.drop 0 = dktX1_layPart_0 := by decide +kernel
theorem dksX1_layPart_1 : cX1_layPart.data.toList.drop 24 = dktX1_layPart_1 := dk_seg dksX1_layPart_0 24 rfl rfl
theorem dksX1_layPart_2 : cX1_layPart.data.toList.drop 46 = dktX1_layPart_2 := dk_seg dksX1_layPart_1 22 rfl rfl
theorem dksX1_layPart_3 : cX1_layPart.data.toList.drop 69 = dktX1_layPart_3 := dk_seg dksX1_layPart_2 23 rfl rfl
theorem dksX1_layPart_4 : cX1_layPart.data.toList.drop 93 = dktX1_layPart_4 := dk_seg dksX1_layPart_3 24 rfl rfl
theorem dX1_layPart_0 : decode cX1_layPart 0 = .ok (.iconst 1, 1) := dk_4 (dk_at dksX1_layPart_0 0 rfl rfl)
theorem dX1_layPart_1 : decode cX1_layPart 1 = .ok (.istore_n 3, 1) := dk_62 (dk_at dksX1_layPart_0 1 rfl rfl)
theorem dX1_layPart_2 : decode cX1_layPart 2 = .ok (.iload_n 1, 1) := dk_27 (dk_at dksX1_layPart_0 2 rfl rfl)
theorem dX1_layPart_3 : decode cX1_layPart 3 = .ok (.istore 4, 2) := dk_54 4 (dk_at dksX1_layPart_0 3 rfl rfl)
theorem dX1_layPart_5 : decode cX1_layPart 5 = .ok (.aload_n 0, 1) := dk_42 (dk_at dksX1_layPart_0 5 rfl rfl)
theorem dX1_layPart_6 : decode cX1_layPart 6 = .ok (.getfield 72, 3) := dk_180 0 72 (dk_at dksX1_layPart_0 6 rfl rfl)
theorem dX1_layPart_9 : decode cX1_layPart 9 = .ok (.iload 4, 2) := dk_21 4 (dk_at dksX1_layPart_0 9 rfl rfl)
theorem dX1_layPart_11 : decode cX1_layPart 11 = .ok (.iaload, 1) := dk_46 (dk_at dksX1_layPart_0 11 rfl rfl)
theorem dX1_layPart_12 : decode cX1_layPart 12 = .ok (.bipush (-9), 2) := dk_16 247 (dk_at dksX1_layPart_0 12 rfl rfl)
theorem dX1_layPart_14 : decode cX1_layPart 14 = .ok (.if_icmp .eq 18, 3) := dk_159 0 18 (dk_at dksX1_layPart_0 14 rfl rfl)
theorem dX1_layPart_17 : decode cX1_layPart 17 = .ok (.iinc 3 1, 3) := dk_132 3 1 (dk_at dksX1_layPart_0 17 rfl rfl)
theorem dX1_layPart_20 : decode cX1_layPart 20 = .ok (.aload_n 0, 1) := dk_42 (dk_at dksX1_layPart_0 20 rfl rfl)
theorem dX1_layPart_21 : decode cX1_layPart 21 = .ok (.getfield 72, 3) := dk_180 0 72 (dk_at dksX1_layPart_0 21 rfl rfl)
theorem dX1_layPart_24 : decode cX1_layPart 24 = .ok (.iload 4, 2) := dk_21 4 (dk_at dksX1_layPart_1 0 rfl rfl)
theorem dX1_layPart_26 : decode cX1_layPart 26 = .ok (.iaload, 1) := dk_46 (dk_at dksX1_layPart_1 2 rfl rfl)
theorem dX1_layPart_27 : decode cX1_layPart 27 = .ok (.istore 4, 2) := dk_54 4 (dk_at dksX1_layPart_1 3 rfl rfl)
theorem dX1_layPart_29 : decode cX1_layPart 29 = .ok (.goto (-24), 3) := dk_167 255 232 (dk_at dksX1_layPart_1 5 rfl rfl)
theorem dX1_layPart_32 : decode cX1_layPart 32 = .ok (.aload_n 0, 1) := dk_42 (dk_at dksX1_layPart_1 8 rfl rfl)
theorem dX1_layPart_33 : decode cX1_layPart 33 = .ok (.iload_n 3, 1) := dk_29 (dk_at dksX1_layPart_1 9 rfl rfl)
theorem dX1_layPart_34 : decode cX1_layPart 34 = .ok (.putfield 151, 3) := dk_181 0 151 (dk_at dksX1_layPart_1 10 rfl rfl)
theorem dX1_layPart_37 : decode cX1_layPart 37 = .ok (.iload_n 3, 1) := dk_29 (dk_at dksX1_layPart_1 13 rfl rfl)
theorem dX1_layPart_38 : decode cX1_layPart 38 = .ok (.iconst 1, 1) := dk_4 (dk_at dksX1_layPart_1 14 rfl rfl)
theorem dX1_layPart_39 : decode cX1_layPart 39 = .ok (.isub, 1) := dk_100 (dk_at dksX1_layPart_1 15 rfl rfl)
theorem dX1_layPart_40 : decode cX1_layPart 40 = .ok (.istore 4, 2) := dk_54 4 (dk_at dksX1_layPart_1 16 rfl rfl)
theorem dX1_layPart_42 : decode cX1_layPart 42 = .ok (.iload 4, 2) := dk_21 4 (dk_at dksX1_layPart_1 18 rfl rfl)
theorem dX1_layPart_44 : decode cX1_layPart 44 = .ok (.bipush 40, 2) := dk_16 40 (dk_at dksX1_layPart_1 20 rfl rfl)
theorem dX1_layPart_46 : decode cX1_layPart 46 = .ok (.if_icmp .ge 11, 3) := dk_162 0 11 (dk_at dksX1_layPart_2 0 rfl rfl)
theorem dX1_layPart_49 : decode cX1_layPart 49 = .ok (.aload_n 0, 1) := dk_42 (dk_at dksX1_layPart_2 3 rfl rfl)
theorem dX1_layPart_50 : decode cX1_layPart 50 = .ok (.getfield 44, 3) := dk_180 0 44 (dk_at dksX1_layPart_2 4 rfl rfl)
theorem dX1_layPart_53 : decode cX1_layPart 53 = .ok (.iload 4, 2) := dk_21 4 (dk_at dksX1_layPart_2 7 rfl rfl)
theorem dX1_layPart_55 : decode cX1_layPart 55 = .ok (.iload_n 2, 1) := dk_28 (dk_at dksX1_layPart_2 9 rfl rfl)
theorem dX1_layPart_56 : decode cX1_layPart 56 = .ok (.iastore, 1) := dk_79 (dk_at dksX1_layPart_2 10 rfl rfl)
theorem dX1_layPart_57 : decode cX1_layPart 57 = .ok (.iload_n 1, 1) := dk_27 (dk_at dksX1_layPart_2 11 rfl rfl)
theorem dX1_layPart_58 : decode cX1_layPart 58 = .ok (.istore 5, 2) := dk_54 5 (dk_at dksX1_layPart_2 12 rfl rfl)
theorem dX1_layPart_60 : decode cX1_layPart 60 = .ok (.aload_n 0, 1) := dk_42 (dk_at dksX1_layPart_2 14 rfl rfl)
theorem dX1_layPart_61 : decode cX1_layPart 61 = .ok (.getfield 72, 3) := dk_180 0 72 (dk_at dksX1_layPart_2 15 rfl rfl)
theorem dX1_layPart_64 : decode cX1_layPart 64 = .ok (.iload 5, 2) := dk_21 5 (dk_at dksX1_layPart_2 18 rfl rfl)
theorem dX1_layPart_66 : decode cX1_layPart 66 = .ok (.iaload, 1) := dk_46 (dk_at dksX1_layPart_2 20 rfl rfl)
theorem dX1_layPart_67 : decode cX1_layPart 67 = .ok (.bipush (-9), 2) := dk_16 247 (dk_at dksX1_layPart_2 21 rfl rfl)
theorem dX1_layPart_69 : decode cX1_layPart 69 = .ok (.if_icmp .eq 32, 3) := dk_159 0 32 (dk_at dksX1_layPart_3 0 rfl rfl)
theorem dX1_layPart_72 : decode cX1_layPart 72 = .ok (.iinc 4 (-1), 3) := dk_132 4 255 (dk_at dksX1_layPart_3 3 rfl rfl)
theorem dX1_layPart_75 : decode cX1_layPart 75 = .ok (.aload_n 0, 1) := dk_42 (dk_at dksX1_layPart_3 6 rfl rfl)
theorem dX1_layPart_76 : decode cX1_layPart 76 = .ok (.getfield 44, 3) := dk_180 0 44 (dk_at dksX1_layPart_3 7 rfl rfl)
theorem dX1_layPart_79 : decode cX1_layPart 79 = .ok (.iload 4, 2) := dk_21 4 (dk_at dksX1_layPart_3 10 rfl rfl)
theorem dX1_layPart_81 : decode cX1_layPart 81 = .ok (.aload_n 0, 1) := dk_42 (dk_at dksX1_layPart_3 12 rfl rfl)
theorem dX1_layPart_82 : decode cX1_layPart 82 = .ok (.getfield 75, 3) := dk_180 0 75 (dk_at dksX1_layPart_3 13 rfl rfl)
theorem dX1_layPart_85 : decode cX1_layPart 85 = .ok (.iload 5, 2) := dk_21 5 (dk_at dksX1_layPart_3 16 rfl rfl)
theorem dX1_layPart_87 : decode cX1_layPart 87 = .ok (.iaload, 1) := dk_46 (dk_at dksX1_layPart_3 18 rfl rfl)
theorem dX1_layPart_88 : decode cX1_layPart 88 = .ok (.iastore, 1) := dk_79 (dk_at dksX1_layPart_3 19 rfl rfl)
theorem dX1_layPart_89 : decode cX1_layPart 89 = .ok (.aload_n 0, 1) := dk_42 (dk_at dksX1_layPart_3 20 rfl rfl)
theorem dX1_layPart_90 : decode cX1_layPart 90 = .ok (.getfield 72, 3) := dk_180 0 72 (dk_at dksX1_layPart_3 21 rfl rfl)
theorem dX1_layPart_93 : decode cX1_layPart 93 = .ok (.iload 5, 2) := dk_21 5 (dk_at dksX1_layPart_4 0 rfl rfl)
theorem dX1_layPart_95 : decode cX1_layPart 95 = .ok (.iaload, 1) := dk_46 (dk_at dksX1_layPart_4 2 rfl rfl)
theorem dX1_layPart_96 : decode cX1_layPart 96 = .ok (.istore 5, 2) := dk_54 5 (dk_at dksX1_layPart_4 3 rfl rfl)
theorem dX1_layPart_98 : decode cX1_layPart 98 = .ok (.goto (-38), 3) := dk_167 255 218 (dk_at dksX1_layPart_4 5 rfl rfl)
theorem dX1_layPart_101 : decode cX1_layPart 101 = .ok (.iload_n 3, 1) := dk_29 (dk_at dksX1_layPart_4 8 rfl rfl)
theorem dX1_layPart_102 : decode cX1_layPart 102 = .ok (.ireturn, 1) := dk_172 (dk_at dksX1_layPart_4 9 rfl rfl)
abbrev cX1_parting : ByteArray := prog_8_method_76_code
def yX1_parting : MethodName := ⟨RX1, "parting", "(III)I"⟩
def dkwX1_parting_2 : List UInt8 := [16, 40, 164, 0, 8, 16, 40, 167, 0, 5, 21, 5, 181, 0, 151, 42, 29, 182, 0, 214, 21, 5, 172]
abbrev dktX1_parting_2 : List UInt8 := dkwX1_parting_2 ++ []
def dkwX1_parting_1 : List UInt8 := [182, 0, 255, 42, 27, 182, 1, 2, 54, 5, 21, 5, 16, 247, 160, 0, 6, 16, 247, 172, 42, 21, 5]
abbrev dktX1_parting_1 : List UInt8 := dkwX1_parting_1 ++ dktX1_parting_2
def dkwX1_parting_0 : List UInt8 := [42, 29, 184, 0, 130, 27, 28, 182, 0, 188, 54, 4, 21, 4, 156, 0, 6, 21, 4, 172, 42, 28]
abbrev dktX1_parting_0 : List UInt8 := dkwX1_parting_0 ++ dktX1_parting_1
theorem dksX1_parting_0 : cX1_parting.data.toList.drop 0 = dktX1_parting_0 := by decide +kernel
theorem dksX1_parting_1 : cX1_parting.data.toList.drop 22 = dktX1_parting_1 := dk_seg dksX1_parting_0 22 rfl rfl
theorem dksX1_parting_2 : cX1_parting.data.toList.drop 45 = dktX1_parting_2 := dk_seg dksX1_parting_1 23 rfl rfl
theorem dX1_parting_0 : decode cX1_parting 0 = .ok (.aload_n 0, 1) := dk_42 (dk_at dksX1_parting_0 0 rfl rfl)
theorem dX1_parting_1 : decode cX1_parting 1 = .ok (.iload_n 3, 1) := dk_29 (dk_at dksX1_parting_0 1 rfl rfl)
theorem dX1_parting_2 : decode cX1_parting 2 = .ok (.invokestatic 130, 3) := dk_184 0 130 (dk_at dksX1_parting_0 2 rfl rfl)
theorem dX1_parting_5 : decode cX1_parting 5 = .ok (.iload_n 1, 1) := dk_27 (dk_at dksX1_parting_0 5 rfl rfl)
theorem dX1_parting_6 : decode cX1_parting 6 = .ok (.iload_n 2, 1) := dk_28 (dk_at dksX1_parting_0 6 rfl rfl)
theorem dX1_parting_7 : decode cX1_parting 7 = .ok (.invokevirtual 188, 3) := dk_182 0 188 (dk_at dksX1_parting_0 7 rfl rfl)
theorem dX1_parting_10 : decode cX1_parting 10 = .ok (.istore 4, 2) := dk_54 4 (dk_at dksX1_parting_0 10 rfl rfl)
theorem dX1_parting_12 : decode cX1_parting 12 = .ok (.iload 4, 2) := dk_21 4 (dk_at dksX1_parting_0 12 rfl rfl)
theorem dX1_parting_14 : decode cX1_parting 14 = .ok (.ifCond .ge 6, 3) := dk_156 0 6 (dk_at dksX1_parting_0 14 rfl rfl)
theorem dX1_parting_17 : decode cX1_parting 17 = .ok (.iload 4, 2) := dk_21 4 (dk_at dksX1_parting_0 17 rfl rfl)
theorem dX1_parting_19 : decode cX1_parting 19 = .ok (.ireturn, 1) := dk_172 (dk_at dksX1_parting_0 19 rfl rfl)
theorem dX1_parting_20 : decode cX1_parting 20 = .ok (.aload_n 0, 1) := dk_42 (dk_at dksX1_parting_0 20 rfl rfl)
theorem dX1_parting_21 : decode cX1_parting 21 = .ok (.iload_n 2, 1) := dk_28 (dk_at dksX1_parting_0 21 rfl rfl)
theorem dX1_parting_22 : decode cX1_parting 22 = .ok (.invokevirtual 255, 3) := dk_182 0 255 (dk_at dksX1_parting_1 0 rfl rfl)
theorem dX1_parting_25 : decode cX1_parting 25 = .ok (.aload_n 0, 1) := dk_42 (dk_at dksX1_parting_1 3 rfl rfl)
theorem dX1_parting_26 : decode cX1_parting 26 = .ok (.iload_n 1, 1) := dk_27 (dk_at dksX1_parting_1 4 rfl rfl)
theorem dX1_parting_27 : decode cX1_parting 27 = .ok (.invokevirtual 258, 3) := dk_182 1 2 (dk_at dksX1_parting_1 5 rfl rfl)
theorem dX1_parting_30 : decode cX1_parting 30 = .ok (.istore 5, 2) := dk_54 5 (dk_at dksX1_parting_1 8 rfl rfl)
theorem dX1_parting_32 : decode cX1_parting 32 = .ok (.iload 5, 2) := dk_21 5 (dk_at dksX1_parting_1 10 rfl rfl)
theorem dX1_parting_34 : decode cX1_parting 34 = .ok (.bipush (-9), 2) := dk_16 247 (dk_at dksX1_parting_1 12 rfl rfl)
theorem dX1_parting_36 : decode cX1_parting 36 = .ok (.if_icmp .ne 6, 3) := dk_160 0 6 (dk_at dksX1_parting_1 14 rfl rfl)
theorem dX1_parting_39 : decode cX1_parting 39 = .ok (.bipush (-9), 2) := dk_16 247 (dk_at dksX1_parting_1 17 rfl rfl)
theorem dX1_parting_41 : decode cX1_parting 41 = .ok (.ireturn, 1) := dk_172 (dk_at dksX1_parting_1 19 rfl rfl)
theorem dX1_parting_42 : decode cX1_parting 42 = .ok (.aload_n 0, 1) := dk_42 (dk_at dksX1_parting_1 20 rfl rfl)
theorem dX1_parting_43 : decode cX1_parting 43 = .ok (.iload 5, 2) := dk_21 5 (dk_at dksX1_parting_1 21 rfl rfl)
theorem dX1_parting_45 : decode cX1_parting 45 = .ok (.bipush 40, 2) := dk_16 40 (dk_at dksX1_parting_2 0 rfl rfl)
theorem dX1_parting_47 : decode cX1_parting 47 = .ok (.if_icmp .le 8, 3) := dk_164 0 8 (dk_at dksX1_parting_2 2 rfl rfl)
theorem dX1_parting_50 : decode cX1_parting 50 = .ok (.bipush 40, 2) := dk_16 40 (dk_at dksX1_parting_2 5 rfl rfl)
theorem dX1_parting_52 : decode cX1_parting 52 = .ok (.goto 5, 3) := dk_167 0 5 (dk_at dksX1_parting_2 7 rfl rfl)
theorem dX1_parting_55 : decode cX1_parting 55 = .ok (.iload 5, 2) := dk_21 5 (dk_at dksX1_parting_2 10 rfl rfl)
theorem dX1_parting_57 : decode cX1_parting 57 = .ok (.putfield 151, 3) := dk_181 0 151 (dk_at dksX1_parting_2 12 rfl rfl)
theorem dX1_parting_60 : decode cX1_parting 60 = .ok (.aload_n 0, 1) := dk_42 (dk_at dksX1_parting_2 15 rfl rfl)
theorem dX1_parting_61 : decode cX1_parting 61 = .ok (.iload_n 3, 1) := dk_29 (dk_at dksX1_parting_2 16 rfl rfl)
theorem dX1_parting_62 : decode cX1_parting 62 = .ok (.invokevirtual 214, 3) := dk_182 0 214 (dk_at dksX1_parting_2 17 rfl rfl)
theorem dX1_parting_65 : decode cX1_parting 65 = .ok (.iload 5, 2) := dk_21 5 (dk_at dksX1_parting_2 20 rfl rfl)
theorem dX1_parting_67 : decode cX1_parting 67 = .ok (.ireturn, 1) := dk_172 (dk_at dksX1_parting_2 22 rfl rfl)
abbrev cX1_drop : ByteArray := prog_8_method_77_code
def yX1_drop : MethodName := ⟨RX1, "drop", "(III)I"⟩
def dkwX1_drop_6 : List UInt8 := [167, 255, 230, 42, 27, 7, 28, 29, 182, 0, 160, 172]
abbrev dktX1_drop_6 : List UInt8 := dkwX1_drop_6 ++ []
def dkwX1_drop_5 : List UInt8 := [180, 0, 246, 162, 0, 23, 42, 180, 0, 44, 21, 6, 42, 180, 0, 82, 21, 6, 46, 79, 132, 6, 1]
abbrev dktX1_drop_5 : List UInt8 := dkwX1_drop_5 ++ dktX1_drop_6
def dkwX1_drop_4 : List UInt8 := [182, 1, 8, 132, 5, 1, 167, 255, 201, 42, 42, 180, 0, 246, 181, 0, 151, 3, 54, 6, 21, 6, 42]
abbrev dktX1_drop_4 : List UInt8 := dkwX1_drop_4 ++ dktX1_drop_5
def dkwX1_drop_3 : List UInt8 := [182, 1, 2, 54, 7, 21, 7, 16, 247, 159, 0, 20, 21, 7, 29, 163, 0, 14, 42, 21, 5, 21, 6]
abbrev dktX1_drop_3 : List UInt8 := dkwX1_drop_3 ++ dktX1_drop_4
def dkwX1_drop_2 : List UInt8 := [180, 0, 246, 162, 0, 52, 42, 180, 0, 82, 21, 5, 46, 54, 6, 42, 21, 5, 182, 1, 5, 42, 28]
abbrev dktX1_drop_2 : List UInt8 := dkwX1_drop_2 ++ dktX1_drop_3
def dkwX1_drop_1 : List UInt8 := [182, 0, 192, 54, 4, 21, 4, 156, 0, 6, 21, 4, 172, 42, 28, 182, 0, 255, 3, 54, 5, 21, 5, 42]
abbrev dktX1_drop_1 : List UInt8 := dkwX1_drop_1 ++ dktX1_drop_2
def dkwX1_drop_0 : List UInt8 := [42, 27, 184, 0, 154, 153, 0, 17, 29, 3, 16, 40, 184, 0, 117, 153, 0, 7, 4, 167, 0, 4, 3, 28]
abbrev dktX1_drop_0 : List UInt8 := dkwX1_drop_0 ++ dktX1_drop_1
theorem dksX1_drop_0 : cX1_drop.data.toList.drop 0 = dktX1_drop_0 := by decide +kernel
theorem dksX1_drop_1 : cX1_drop.data.toList.drop 24 = dktX1_drop_1 := dk_seg dksX1_drop_0 24 rfl rfl
theorem dksX1_drop_2 : cX1_drop.data.toList.drop 48 = dktX1_drop_2 := dk_seg dksX1_drop_1 24 rfl rfl
theorem dksX1_drop_3 : cX1_drop.data.toList.drop 71 = dktX1_drop_3 := dk_seg dksX1_drop_2 23 rfl rfl
theorem dksX1_drop_4 : cX1_drop.data.toList.drop 94 = dktX1_drop_4 := dk_seg dksX1_drop_3 23 rfl rfl
theorem dksX1_drop_5 : cX1_drop.data.toList.drop 117 = dktX1_drop_5 := dk_seg dksX1_drop_4 23 rfl rfl
theorem dksX1_drop_6 : cX1_drop.data.toList.drop 140 = dktX1_drop_6 := dk_seg dksX1_drop_5 23 rfl rfl
theorem dX1_drop_0 : decode cX1_drop 0 = .ok (.aload_n 0, 1) := dk_42 (dk_at dksX1_drop_0 0 rfl rfl)
theorem dX1_drop_1 : decode cX1_drop 1 = .ok (.iload_n 1, 1) := dk_27 (dk_at dksX1_drop_0 1 rfl rfl)
theorem dX1_drop_2 : decode cX1_drop 2 = .ok (.invokestatic 154, 3) := dk_184 0 154 (dk_at dksX1_drop_0 2 rfl rfl)
theorem dX1_drop_5 : decode cX1_drop 5 = .ok (.ifCond .eq 17, 3) := dk_153 0 17 (dk_at dksX1_drop_0 5 rfl rfl)
theorem dX1_drop_8 : decode cX1_drop 8 = .ok (.iload_n 3, 1) := dk_29 (dk_at dksX1_drop_0 8 rfl rfl)
theorem dX1_drop_9 : decode cX1_drop 9 = .ok (.iconst 0, 1) := dk_3 (dk_at dksX1_drop_0 9 rfl rfl)
theorem dX1_drop_10 : decode cX1_drop 10 = .ok (.bipush 40, 2) := dk_16 40 (dk_at dksX1_drop_0 10 rfl rfl)
theorem dX1_drop_12 : decode cX1_drop 12 = .ok (.invokestatic 117, 3) := dk_184 0 117 (dk_at dksX1_drop_0 12 rfl rfl)
theorem dX1_drop_15 : decode cX1_drop 15 = .ok (.ifCond .eq 7, 3) := dk_153 0 7 (dk_at dksX1_drop_0 15 rfl rfl)
theorem dX1_drop_18 : decode cX1_drop 18 = .ok (.iconst 1, 1) := dk_4 (dk_at dksX1_drop_0 18 rfl rfl)
theorem dX1_drop_19 : decode cX1_drop 19 = .ok (.goto 4, 3) := dk_167 0 4 (dk_at dksX1_drop_0 19 rfl rfl)
theorem dX1_drop_22 : decode cX1_drop 22 = .ok (.iconst 0, 1) := dk_3 (dk_at dksX1_drop_0 22 rfl rfl)
theorem dX1_drop_23 : decode cX1_drop 23 = .ok (.iload_n 2, 1) := dk_28 (dk_at dksX1_drop_0 23 rfl rfl)
theorem dX1_drop_24 : decode cX1_drop 24 = .ok (.invokevirtual 192, 3) := dk_182 0 192 (dk_at dksX1_drop_1 0 rfl rfl)
theorem dX1_drop_27 : decode cX1_drop 27 = .ok (.istore 4, 2) := dk_54 4 (dk_at dksX1_drop_1 3 rfl rfl)
theorem dX1_drop_29 : decode cX1_drop 29 = .ok (.iload 4, 2) := dk_21 4 (dk_at dksX1_drop_1 5 rfl rfl)
theorem dX1_drop_31 : decode cX1_drop 31 = .ok (.ifCond .ge 6, 3) := dk_156 0 6 (dk_at dksX1_drop_1 7 rfl rfl)
theorem dX1_drop_34 : decode cX1_drop 34 = .ok (.iload 4, 2) := dk_21 4 (dk_at dksX1_drop_1 10 rfl rfl)
theorem dX1_drop_36 : decode cX1_drop 36 = .ok (.ireturn, 1) := dk_172 (dk_at dksX1_drop_1 12 rfl rfl)
theorem dX1_drop_37 : decode cX1_drop 37 = .ok (.aload_n 0, 1) := dk_42 (dk_at dksX1_drop_1 13 rfl rfl)
theorem dX1_drop_38 : decode cX1_drop 38 = .ok (.iload_n 2, 1) := dk_28 (dk_at dksX1_drop_1 14 rfl rfl)
theorem dX1_drop_39 : decode cX1_drop 39 = .ok (.invokevirtual 255, 3) := dk_182 0 255 (dk_at dksX1_drop_1 15 rfl rfl)
theorem dX1_drop_42 : decode cX1_drop 42 = .ok (.iconst 0, 1) := dk_3 (dk_at dksX1_drop_1 18 rfl rfl)
theorem dX1_drop_43 : decode cX1_drop 43 = .ok (.istore 5, 2) := dk_54 5 (dk_at dksX1_drop_1 19 rfl rfl)
theorem dX1_drop_45 : decode cX1_drop 45 = .ok (.iload 5, 2) := dk_21 5 (dk_at dksX1_drop_1 21 rfl rfl)
theorem dX1_drop_47 : decode cX1_drop 47 = .ok (.aload_n 0, 1) := dk_42 (dk_at dksX1_drop_1 23 rfl rfl)
theorem dX1_drop_48 : decode cX1_drop 48 = .ok (.getfield 246, 3) := dk_180 0 246 (dk_at dksX1_drop_2 0 rfl rfl)
theorem dX1_drop_51 : decode cX1_drop 51 = .ok (.if_icmp .ge 52, 3) := dk_162 0 52 (dk_at dksX1_drop_2 3 rfl rfl)
theorem dX1_drop_54 : decode cX1_drop 54 = .ok (.aload_n 0, 1) := dk_42 (dk_at dksX1_drop_2 6 rfl rfl)
theorem dX1_drop_55 : decode cX1_drop 55 = .ok (.getfield 82, 3) := dk_180 0 82 (dk_at dksX1_drop_2 7 rfl rfl)
theorem dX1_drop_58 : decode cX1_drop 58 = .ok (.iload 5, 2) := dk_21 5 (dk_at dksX1_drop_2 10 rfl rfl)
theorem dX1_drop_60 : decode cX1_drop 60 = .ok (.iaload, 1) := dk_46 (dk_at dksX1_drop_2 12 rfl rfl)
theorem dX1_drop_61 : decode cX1_drop 61 = .ok (.istore 6, 2) := dk_54 6 (dk_at dksX1_drop_2 13 rfl rfl)
theorem dX1_drop_63 : decode cX1_drop 63 = .ok (.aload_n 0, 1) := dk_42 (dk_at dksX1_drop_2 15 rfl rfl)
theorem dX1_drop_64 : decode cX1_drop 64 = .ok (.iload 5, 2) := dk_21 5 (dk_at dksX1_drop_2 16 rfl rfl)
theorem dX1_drop_66 : decode cX1_drop 66 = .ok (.invokevirtual 261, 3) := dk_182 1 5 (dk_at dksX1_drop_2 18 rfl rfl)
theorem dX1_drop_69 : decode cX1_drop 69 = .ok (.aload_n 0, 1) := dk_42 (dk_at dksX1_drop_2 21 rfl rfl)
theorem dX1_drop_70 : decode cX1_drop 70 = .ok (.iload_n 2, 1) := dk_28 (dk_at dksX1_drop_2 22 rfl rfl)
theorem dX1_drop_71 : decode cX1_drop 71 = .ok (.invokevirtual 258, 3) := dk_182 1 2 (dk_at dksX1_drop_3 0 rfl rfl)
theorem dX1_drop_74 : decode cX1_drop 74 = .ok (.istore 7, 2) := dk_54 7 (dk_at dksX1_drop_3 3 rfl rfl)
theorem dX1_drop_76 : decode cX1_drop 76 = .ok (.iload 7, 2) := dk_21 7 (dk_at dksX1_drop_3 5 rfl rfl)
theorem dX1_drop_78 : decode cX1_drop 78 = .ok (.bipush (-9), 2) := dk_16 247 (dk_at dksX1_drop_3 7 rfl rfl)
theorem dX1_drop_80 : decode cX1_drop 80 = .ok (.if_icmp .eq 20, 3) := dk_159 0 20 (dk_at dksX1_drop_3 9 rfl rfl)
theorem dX1_drop_83 : decode cX1_drop 83 = .ok (.iload 7, 2) := dk_21 7 (dk_at dksX1_drop_3 12 rfl rfl)
theorem dX1_drop_85 : decode cX1_drop 85 = .ok (.iload_n 3, 1) := dk_29 (dk_at dksX1_drop_3 14 rfl rfl)
theorem dX1_drop_86 : decode cX1_drop 86 = .ok (.if_icmp .gt 14, 3) := dk_163 0 14 (dk_at dksX1_drop_3 15 rfl rfl)
theorem dX1_drop_89 : decode cX1_drop 89 = .ok (.aload_n 0, 1) := dk_42 (dk_at dksX1_drop_3 18 rfl rfl)
theorem dX1_drop_90 : decode cX1_drop 90 = .ok (.iload 5, 2) := dk_21 5 (dk_at dksX1_drop_3 19 rfl rfl)
theorem dX1_drop_92 : decode cX1_drop 92 = .ok (.iload 6, 2) := dk_21 6 (dk_at dksX1_drop_3 21 rfl rfl)
theorem dX1_drop_94 : decode cX1_drop 94 = .ok (.invokevirtual 264, 3) := dk_182 1 8 (dk_at dksX1_drop_4 0 rfl rfl)
theorem dX1_drop_97 : decode cX1_drop 97 = .ok (.iinc 5 1, 3) := dk_132 5 1 (dk_at dksX1_drop_4 3 rfl rfl)
theorem dX1_drop_100 : decode cX1_drop 100 = .ok (.goto (-55), 3) := dk_167 255 201 (dk_at dksX1_drop_4 6 rfl rfl)
theorem dX1_drop_103 : decode cX1_drop 103 = .ok (.aload_n 0, 1) := dk_42 (dk_at dksX1_drop_4 9 rfl rfl)
theorem dX1_drop_104 : decode cX1_drop 104 = .ok (.aload_n 0, 1) := dk_42 (dk_at dksX1_drop_4 10 rfl rfl)
theorem dX1_drop_105 : decode cX1_drop 105 = .ok (.getfield 246, 3) := dk_180 0 246 (dk_at dksX1_drop_4 11 rfl rfl)
theorem dX1_drop_108 : decode cX1_drop 108 = .ok (.putfield 151, 3) := dk_181 0 151 (dk_at dksX1_drop_4 14 rfl rfl)
theorem dX1_drop_111 : decode cX1_drop 111 = .ok (.iconst 0, 1) := dk_3 (dk_at dksX1_drop_4 17 rfl rfl)
theorem dX1_drop_112 : decode cX1_drop 112 = .ok (.istore 6, 2) := dk_54 6 (dk_at dksX1_drop_4 18 rfl rfl)
theorem dX1_drop_114 : decode cX1_drop 114 = .ok (.iload 6, 2) := dk_21 6 (dk_at dksX1_drop_4 20 rfl rfl)
theorem dX1_drop_116 : decode cX1_drop 116 = .ok (.aload_n 0, 1) := dk_42 (dk_at dksX1_drop_4 22 rfl rfl)
theorem dX1_drop_117 : decode cX1_drop 117 = .ok (.getfield 246, 3) := dk_180 0 246 (dk_at dksX1_drop_5 0 rfl rfl)
theorem dX1_drop_120 : decode cX1_drop 120 = .ok (.if_icmp .ge 23, 3) := dk_162 0 23 (dk_at dksX1_drop_5 3 rfl rfl)
theorem dX1_drop_123 : decode cX1_drop 123 = .ok (.aload_n 0, 1) := dk_42 (dk_at dksX1_drop_5 6 rfl rfl)
theorem dX1_drop_124 : decode cX1_drop 124 = .ok (.getfield 44, 3) := dk_180 0 44 (dk_at dksX1_drop_5 7 rfl rfl)
theorem dX1_drop_127 : decode cX1_drop 127 = .ok (.iload 6, 2) := dk_21 6 (dk_at dksX1_drop_5 10 rfl rfl)
theorem dX1_drop_129 : decode cX1_drop 129 = .ok (.aload_n 0, 1) := dk_42 (dk_at dksX1_drop_5 12 rfl rfl)
theorem dX1_drop_130 : decode cX1_drop 130 = .ok (.getfield 82, 3) := dk_180 0 82 (dk_at dksX1_drop_5 13 rfl rfl)
theorem dX1_drop_133 : decode cX1_drop 133 = .ok (.iload 6, 2) := dk_21 6 (dk_at dksX1_drop_5 16 rfl rfl)
theorem dX1_drop_135 : decode cX1_drop 135 = .ok (.iaload, 1) := dk_46 (dk_at dksX1_drop_5 18 rfl rfl)
theorem dX1_drop_136 : decode cX1_drop 136 = .ok (.iastore, 1) := dk_79 (dk_at dksX1_drop_5 19 rfl rfl)
theorem dX1_drop_137 : decode cX1_drop 137 = .ok (.iinc 6 1, 3) := dk_132 6 1 (dk_at dksX1_drop_5 20 rfl rfl)
theorem dX1_drop_140 : decode cX1_drop 140 = .ok (.goto (-26), 3) := dk_167 255 230 (dk_at dksX1_drop_6 0 rfl rfl)
theorem dX1_drop_143 : decode cX1_drop 143 = .ok (.aload_n 0, 1) := dk_42 (dk_at dksX1_drop_6 3 rfl rfl)
theorem dX1_drop_144 : decode cX1_drop 144 = .ok (.iload_n 1, 1) := dk_27 (dk_at dksX1_drop_6 4 rfl rfl)
theorem dX1_drop_145 : decode cX1_drop 145 = .ok (.iconst 4, 1) := dk_7 (dk_at dksX1_drop_6 5 rfl rfl)
theorem dX1_drop_146 : decode cX1_drop 146 = .ok (.iload_n 2, 1) := dk_28 (dk_at dksX1_drop_6 6 rfl rfl)
theorem dX1_drop_147 : decode cX1_drop 147 = .ok (.iload_n 3, 1) := dk_29 (dk_at dksX1_drop_6 7 rfl rfl)
theorem dX1_drop_148 : decode cX1_drop 148 = .ok (.invokevirtual 160, 3) := dk_182 0 160 (dk_at dksX1_drop_6 8 rfl rfl)
theorem dX1_drop_151 : decode cX1_drop 151 = .ok (.ireturn, 1) := dk_172 (dk_at dksX1_drop_6 11 rfl rfl)
abbrev cX1_dropOther : ByteArray := prog_8_method_78_code
def yX1_dropOther : MethodName := ⟨RX1, "dropOther", "(I)V"⟩
def dkwX1_dropOther_1 : List UInt8 := [28, 42, 180, 0, 82, 28, 4, 96, 46, 79, 132, 2, 1, 167, 255, 231, 177]
abbrev dktX1_dropOther_1 : List UInt8 := dkwX1_dropOther_1 ++ []
def dkwX1_dropOther_0 : List UInt8 := [42, 89, 180, 0, 246, 4, 100, 181, 0, 246, 27, 61, 28, 42, 180, 0, 246, 162, 0, 23, 42, 180, 0, 82]
abbrev dktX1_dropOther_0 : List UInt8 := dkwX1_dropOther_0 ++ dktX1_dropOther_1
theorem dksX1_dropOther_0 : cX1_dropOther.data.toList.drop 0 = dktX1_dropOther_0 := by decide +kernel
theorem dksX1_dropOther_1 : cX1_dropOther.data.toList.drop 24 = dktX1_dropOther_1 := dk_seg dksX1_dropOther_0 24 rfl rfl
theorem dX1_dropOther_0 : decode cX1_dropOther 0 = .ok (.aload_n 0, 1) := dk_42 (dk_at dksX1_dropOther_0 0 rfl rfl)
theorem dX1_dropOther_1 : decode cX1_dropOther 1 = .ok (.dup, 1) := dk_89 (dk_at dksX1_dropOther_0 1 rfl rfl)
theorem dX1_dropOther_2 : decode cX1_dropOther 2 = .ok (.getfield 246, 3) := dk_180 0 246 (dk_at dksX1_dropOther_0 2 rfl rfl)
theorem dX1_dropOther_5 : decode cX1_dropOther 5 = .ok (.iconst 1, 1) := dk_4 (dk_at dksX1_dropOther_0 5 rfl rfl)
theorem dX1_dropOther_6 : decode cX1_dropOther 6 = .ok (.isub, 1) := dk_100 (dk_at dksX1_dropOther_0 6 rfl rfl)
theorem dX1_dropOther_7 : decode cX1_dropOther 7 = .ok (.putfield 246, 3) := dk_181 0 246 (dk_at dksX1_dropOther_0 7 rfl rfl)
theorem dX1_dropOther_10 : decode cX1_dropOther 10 = .ok (.iload_n 1, 1) := dk_27 (dk_at dksX1_dropOther_0 10 rfl rfl)
theorem dX1_dropOther_11 : decode cX1_dropOther 11 = .ok (.istore_n 2, 1) := dk_61 (dk_at dksX1_dropOther_0 11 rfl rfl)
theorem dX1_dropOther_12 : decode cX1_dropOther 12 = .ok (.iload_n 2, 1) := dk_28 (dk_at dksX1_dropOther_0 12 rfl rfl)
theorem dX1_dropOther_13 : decode cX1_dropOther 13 = .ok (.aload_n 0, 1) := dk_42 (dk_at dksX1_dropOther_0 13 rfl rfl)
theorem dX1_dropOther_14 : decode cX1_dropOther 14 = .ok (.getfield 246, 3) := dk_180 0 246 (dk_at dksX1_dropOther_0 14 rfl rfl)
theorem dX1_dropOther_17 : decode cX1_dropOther 17 = .ok (.if_icmp .ge 23, 3) := dk_162 0 23 (dk_at dksX1_dropOther_0 17 rfl rfl)
theorem dX1_dropOther_20 : decode cX1_dropOther 20 = .ok (.aload_n 0, 1) := dk_42 (dk_at dksX1_dropOther_0 20 rfl rfl)
theorem dX1_dropOther_21 : decode cX1_dropOther 21 = .ok (.getfield 82, 3) := dk_180 0 82 (dk_at dksX1_dropOther_0 21 rfl rfl)
theorem dX1_dropOther_24 : decode cX1_dropOther 24 = .ok (.iload_n 2, 1) := dk_28 (dk_at dksX1_dropOther_1 0 rfl rfl)
theorem dX1_dropOther_25 : decode cX1_dropOther 25 = .ok (.aload_n 0, 1) := dk_42 (dk_at dksX1_dropOther_1 1 rfl rfl)
theorem dX1_dropOther_26 : decode cX1_dropOther 26 = .ok (.getfield 82, 3) := dk_180 0 82 (dk_at dksX1_dropOther_1 2 rfl rfl)
theorem dX1_dropOther_29 : decode cX1_dropOther 29 = .ok (.iload_n 2, 1) := dk_28 (dk_at dksX1_dropOther_1 5 rfl rfl)
theorem dX1_dropOther_30 : decode cX1_dropOther 30 = .ok (.iconst 1, 1) := dk_4 (dk_at dksX1_dropOther_1 6 rfl rfl)
theorem dX1_dropOther_31 : decode cX1_dropOther 31 = .ok (.iadd, 1) := dk_96 (dk_at dksX1_dropOther_1 7 rfl rfl)
theorem dX1_dropOther_32 : decode cX1_dropOther 32 = .ok (.iaload, 1) := dk_46 (dk_at dksX1_dropOther_1 8 rfl rfl)
theorem dX1_dropOther_33 : decode cX1_dropOther 33 = .ok (.iastore, 1) := dk_79 (dk_at dksX1_dropOther_1 9 rfl rfl)
theorem dX1_dropOther_34 : decode cX1_dropOther 34 = .ok (.iinc 2 1, 3) := dk_132 2 1 (dk_at dksX1_dropOther_1 10 rfl rfl)
theorem dX1_dropOther_37 : decode cX1_dropOther 37 = .ok (.goto (-25), 3) := dk_167 255 231 (dk_at dksX1_dropOther_1 13 rfl rfl)
theorem dX1_dropOther_40 : decode cX1_dropOther 40 = .ok (.return_, 1) := dk_177 (dk_at dksX1_dropOther_1 16 rfl rfl)
abbrev cX1_backOther : ByteArray := prog_8_method_79_code
def yX1_backOther : MethodName := ⟨RX1, "backOther", "(II)V"⟩
def dkwX1_backOther_1 : List UInt8 := [132, 3, 255, 167, 255, 234, 42, 180, 0, 82, 27, 28, 79, 42, 89, 180, 0, 246, 4, 96, 181, 0, 246, 177]
abbrev dktX1_backOther_1 : List UInt8 := dkwX1_backOther_1 ++ []
def dkwX1_backOther_0 : List UInt8 := [42, 180, 0, 246, 62, 29, 27, 164, 0, 23, 42, 180, 0, 82, 29, 42, 180, 0, 82, 29, 4, 100, 46, 79]
abbrev dktX1_backOther_0 : List UInt8 := dkwX1_backOther_0 ++ dktX1_backOther_1
theorem dksX1_backOther_0 : cX1_backOther.data.toList.drop 0 = dktX1_backOther_0 := by decide +kernel
theorem dksX1_backOther_1 : cX1_backOther.data.toList.drop 24 = dktX1_backOther_1 := dk_seg dksX1_backOther_0 24 rfl rfl
theorem dX1_backOther_0 : decode cX1_backOther 0 = .ok (.aload_n 0, 1) := dk_42 (dk_at dksX1_backOther_0 0 rfl rfl)
theorem dX1_backOther_1 : decode cX1_backOther 1 = .ok (.getfield 246, 3) := dk_180 0 246 (dk_at dksX1_backOther_0 1 rfl rfl)
theorem dX1_backOther_4 : decode cX1_backOther 4 = .ok (.istore_n 3, 1) := dk_62 (dk_at dksX1_backOther_0 4 rfl rfl)
theorem dX1_backOther_5 : decode cX1_backOther 5 = .ok (.iload_n 3, 1) := dk_29 (dk_at dksX1_backOther_0 5 rfl rfl)
theorem dX1_backOther_6 : decode cX1_backOther 6 = .ok (.iload_n 1, 1) := dk_27 (dk_at dksX1_backOther_0 6 rfl rfl)
theorem dX1_backOther_7 : decode cX1_backOther 7 = .ok (.if_icmp .le 23, 3) := dk_164 0 23 (dk_at dksX1_backOther_0 7 rfl rfl)
theorem dX1_backOther_10 : decode cX1_backOther 10 = .ok (.aload_n 0, 1) := dk_42 (dk_at dksX1_backOther_0 10 rfl rfl)
theorem dX1_backOther_11 : decode cX1_backOther 11 = .ok (.getfield 82, 3) := dk_180 0 82 (dk_at dksX1_backOther_0 11 rfl rfl)
theorem dX1_backOther_14 : decode cX1_backOther 14 = .ok (.iload_n 3, 1) := dk_29 (dk_at dksX1_backOther_0 14 rfl rfl)
theorem dX1_backOther_15 : decode cX1_backOther 15 = .ok (.aload_n 0, 1) := dk_42 (dk_at dksX1_backOther_0 15 rfl rfl)
theorem dX1_backOther_16 : decode cX1_backOther 16 = .ok (.getfield 82, 3) := dk_180 0 82 (dk_at dksX1_backOther_0 16 rfl rfl)
theorem dX1_backOther_19 : decode cX1_backOther 19 = .ok (.iload_n 3, 1) := dk_29 (dk_at dksX1_backOther_0 19 rfl rfl)
theorem dX1_backOther_20 : decode cX1_backOther 20 = .ok (.iconst 1, 1) := dk_4 (dk_at dksX1_backOther_0 20 rfl rfl)
theorem dX1_backOther_21 : decode cX1_backOther 21 = .ok (.isub, 1) := dk_100 (dk_at dksX1_backOther_0 21 rfl rfl)
theorem dX1_backOther_22 : decode cX1_backOther 22 = .ok (.iaload, 1) := dk_46 (dk_at dksX1_backOther_0 22 rfl rfl)
theorem dX1_backOther_23 : decode cX1_backOther 23 = .ok (.iastore, 1) := dk_79 (dk_at dksX1_backOther_0 23 rfl rfl)
theorem dX1_backOther_24 : decode cX1_backOther 24 = .ok (.iinc 3 (-1), 3) := dk_132 3 255 (dk_at dksX1_backOther_1 0 rfl rfl)
theorem dX1_backOther_27 : decode cX1_backOther 27 = .ok (.goto (-22), 3) := dk_167 255 234 (dk_at dksX1_backOther_1 3 rfl rfl)
theorem dX1_backOther_30 : decode cX1_backOther 30 = .ok (.aload_n 0, 1) := dk_42 (dk_at dksX1_backOther_1 6 rfl rfl)
theorem dX1_backOther_31 : decode cX1_backOther 31 = .ok (.getfield 82, 3) := dk_180 0 82 (dk_at dksX1_backOther_1 7 rfl rfl)
theorem dX1_backOther_34 : decode cX1_backOther 34 = .ok (.iload_n 1, 1) := dk_27 (dk_at dksX1_backOther_1 10 rfl rfl)
theorem dX1_backOther_35 : decode cX1_backOther 35 = .ok (.iload_n 2, 1) := dk_28 (dk_at dksX1_backOther_1 11 rfl rfl)
theorem dX1_backOther_36 : decode cX1_backOther 36 = .ok (.iastore, 1) := dk_79 (dk_at dksX1_backOther_1 12 rfl rfl)
theorem dX1_backOther_37 : decode cX1_backOther 37 = .ok (.aload_n 0, 1) := dk_42 (dk_at dksX1_backOther_1 13 rfl rfl)
theorem dX1_backOther_38 : decode cX1_backOther 38 = .ok (.dup, 1) := dk_89 (dk_at dksX1_backOther_1 14 rfl rfl)
theorem dX1_backOther_39 : decode cX1_backOther 39 = .ok (.getfield 246, 3) := dk_180 0 246 (dk_at dksX1_backOther_1 15 rfl rfl)
theorem dX1_backOther_42 : decode cX1_backOther 42 = .ok (.iconst 1, 1) := dk_4 (dk_at dksX1_backOther_1 18 rfl rfl)
theorem dX1_backOther_43 : decode cX1_backOther 43 = .ok (.iadd, 1) := dk_96 (dk_at dksX1_backOther_1 19 rfl rfl)
theorem dX1_backOther_44 : decode cX1_backOther 44 = .ok (.putfield 246, 3) := dk_181 0 246 (dk_at dksX1_backOther_1 20 rfl rfl)
theorem dX1_backOther_47 : decode cX1_backOther 47 = .ok (.return_, 1) := dk_177 (dk_at dksX1_backOther_1 23 rfl rfl)
abbrev cX1_common : ByteArray := prog_8_method_87_code
def yX1_common : MethodName := ⟨RX1, "common", "(II)I"⟩
def dkwX1_common_9 : List UInt8 := [181, 0, 151, 21, 7, 54, 5, 167, 255, 169, 42, 28, 182, 0, 214, 21, 4, 172]
abbrev dktX1_common_9 : List UInt8 := dkwX1_common_9 ++ []
def dkwX1_common_8 : List UInt8 := [54, 7, 167, 255, 219, 42, 180, 0, 44, 42, 180, 0, 151, 21, 6, 79, 42, 89, 180, 0, 151, 4, 96]
abbrev dktX1_common_8 : List UInt8 := dkwX1_common_8 ++ dktX1_common_9
def dkwX1_common_7 : List UInt8 := [46, 4, 96, 42, 180, 0, 88, 21, 5, 46, 162, 0, 19, 132, 6, 1, 42, 21, 5, 21, 6, 182, 1, 30]
abbrev dktX1_common_7 : List UInt8 := dkwX1_common_7 ++ dktX1_common_8
def dkwX1_common_6 : List UInt8 := [3, 54, 6, 42, 21, 5, 21, 6, 182, 1, 30, 54, 7, 21, 7, 155, 0, 22, 42, 180, 0, 88, 21, 7]
abbrev dktX1_common_6 : List UInt8 := dkwX1_common_6 ++ dktX1_common_7
def dkwX1_common_5 : List UInt8 := [180, 0, 88, 3, 46, 54, 4, 3, 54, 5, 42, 3, 181, 0, 151, 42, 180, 0, 151, 21, 4, 162, 0, 84]
abbrev dktX1_common_5 : List UInt8 := dkwX1_common_5 ++ dktX1_common_6
def dkwX1_common_4 : List UInt8 := [167, 0, 10, 42, 180, 0, 88, 21, 4, 46, 79, 132, 5, 1, 167, 255, 184, 132, 4, 255, 167, 255, 162, 42]
abbrev dktX1_common_4 : List UInt8 := dkwX1_common_4 ++ dktX1_common_5
def dkwX1_common_3 : List UInt8 := [21, 6, 46, 4, 96, 42, 180, 0, 88, 21, 4, 46, 164, 0, 15, 42, 180, 0, 88, 21, 6, 46, 4, 96]
abbrev dktX1_common_3 : List UInt8 := dkwX1_common_3 ++ dktX1_common_4
def dkwX1_common_2 : List UInt8 := [21, 4, 21, 5, 182, 1, 30, 54, 6, 42, 180, 0, 88, 21, 4, 21, 6, 155, 0, 34, 42, 180, 0, 88]
abbrev dktX1_common_2 : List UInt8 := dkwX1_common_2 ++ dktX1_common_3
def dkwX1_common_1 : List UInt8 := [155, 0, 95, 42, 180, 0, 88, 21, 4, 3, 79, 3, 54, 5, 21, 5, 42, 180, 0, 110, 162, 0, 69, 42]
abbrev dktX1_common_1 : List UInt8 := dkwX1_common_1 ++ dktX1_common_2
def dkwX1_common_0 : List UInt8 := [42, 27, 28, 182, 1, 24, 62, 29, 156, 0, 5, 29, 172, 42, 182, 1, 27, 4, 100, 54, 4, 21, 4]
abbrev dktX1_common_0 : List UInt8 := dkwX1_common_0 ++ dktX1_common_1
theorem dksX1_common_0 : cX1_common.data.toList.drop 0 = dktX1_common_0 := by decide +kernel
theorem dksX1_common_1 : cX1_common.data.toList.drop 23 = dktX1_common_1 := dk_seg dksX1_common_0 23 rfl rfl
theorem dksX1_common_2 : cX1_common.data.toList.drop 47 = dktX1_common_2 := dk_seg dksX1_common_1 24 rfl rfl
theorem dksX1_common_3 : cX1_common.data.toList.drop 71 = dktX1_common_3 := dk_seg dksX1_common_2 24 rfl rfl
theorem dksX1_common_4 : cX1_common.data.toList.drop 95 = dktX1_common_4 := dk_seg dksX1_common_3 24 rfl rfl
theorem dksX1_common_5 : cX1_common.data.toList.drop 119 = dktX1_common_5 := dk_seg dksX1_common_4 24 rfl rfl
theorem dksX1_common_6 : cX1_common.data.toList.drop 143 = dktX1_common_6 := dk_seg dksX1_common_5 24 rfl rfl
theorem dksX1_common_7 : cX1_common.data.toList.drop 167 = dktX1_common_7 := dk_seg dksX1_common_6 24 rfl rfl
theorem dksX1_common_8 : cX1_common.data.toList.drop 191 = dktX1_common_8 := dk_seg dksX1_common_7 24 rfl rfl
theorem dksX1_common_9 : cX1_common.data.toList.drop 214 = dktX1_common_9 := dk_seg dksX1_common_8 23 rfl rfl
theorem dX1_common_0 : decode cX1_common 0 = .ok (.aload_n 0, 1) := dk_42 (dk_at dksX1_common_0 0 rfl rfl)
theorem dX1_common_1 : decode cX1_common 1 = .ok (.iload_n 1, 1) := dk_27 (dk_at dksX1_common_0 1 rfl rfl)
theorem dX1_common_2 : decode cX1_common 2 = .ok (.iload_n 2, 1) := dk_28 (dk_at dksX1_common_0 2 rfl rfl)
theorem dX1_common_3 : decode cX1_common 3 = .ok (.invokevirtual 280, 3) := dk_182 1 24 (dk_at dksX1_common_0 3 rfl rfl)
theorem dX1_common_6 : decode cX1_common 6 = .ok (.istore_n 3, 1) := dk_62 (dk_at dksX1_common_0 6 rfl rfl)
theorem dX1_common_7 : decode cX1_common 7 = .ok (.iload_n 3, 1) := dk_29 (dk_at dksX1_common_0 7 rfl rfl)
theorem dX1_common_8 : decode cX1_common 8 = .ok (.ifCond .ge 5, 3) := dk_156 0 5 (dk_at dksX1_common_0 8 rfl rfl)
theorem dX1_common_11 : decode cX1_common 11 = .ok (.iload_n 3, 1) := dk_29 (dk_at dksX1_common_0 11 rfl rfl)
theorem dX1_common_12 : decode cX1_common 12 = .ok (.ireturn, 1) := dk_172 (dk_at dksX1_common_0 12 rfl rfl)
theorem dX1_common_13 : decode cX1_common 13 = .ok (.aload_n 0, 1) := dk_42 (dk_at dksX1_common_0 13 rfl rfl)
theorem dX1_common_14 : decode cX1_common 14 = .ok (.invokevirtual 283, 3) := dk_182 1 27 (dk_at dksX1_common_0 14 rfl rfl)
theorem dX1_common_17 : decode cX1_common 17 = .ok (.iconst 1, 1) := dk_4 (dk_at dksX1_common_0 17 rfl rfl)
theorem dX1_common_18 : decode cX1_common 18 = .ok (.isub, 1) := dk_100 (dk_at dksX1_common_0 18 rfl rfl)
theorem dX1_common_19 : decode cX1_common 19 = .ok (.istore 4, 2) := dk_54 4 (dk_at dksX1_common_0 19 rfl rfl)
theorem dX1_common_21 : decode cX1_common 21 = .ok (.iload 4, 2) := dk_21 4 (dk_at dksX1_common_0 21 rfl rfl)
theorem dX1_common_23 : decode cX1_common 23 = .ok (.ifCond .lt 95, 3) := dk_155 0 95 (dk_at dksX1_common_1 0 rfl rfl)
theorem dX1_common_26 : decode cX1_common 26 = .ok (.aload_n 0, 1) := dk_42 (dk_at dksX1_common_1 3 rfl rfl)
theorem dX1_common_27 : decode cX1_common 27 = .ok (.getfield 88, 3) := dk_180 0 88 (dk_at dksX1_common_1 4 rfl rfl)
theorem dX1_common_30 : decode cX1_common 30 = .ok (.iload 4, 2) := dk_21 4 (dk_at dksX1_common_1 7 rfl rfl)
theorem dX1_common_32 : decode cX1_common 32 = .ok (.iconst 0, 1) := dk_3 (dk_at dksX1_common_1 9 rfl rfl)
theorem dX1_common_33 : decode cX1_common 33 = .ok (.iastore, 1) := dk_79 (dk_at dksX1_common_1 10 rfl rfl)
theorem dX1_common_34 : decode cX1_common 34 = .ok (.iconst 0, 1) := dk_3 (dk_at dksX1_common_1 11 rfl rfl)
theorem dX1_common_35 : decode cX1_common 35 = .ok (.istore 5, 2) := dk_54 5 (dk_at dksX1_common_1 12 rfl rfl)
theorem dX1_common_37 : decode cX1_common 37 = .ok (.iload 5, 2) := dk_21 5 (dk_at dksX1_common_1 14 rfl rfl)
theorem dX1_common_39 : decode cX1_common 39 = .ok (.aload_n 0, 1) := dk_42 (dk_at dksX1_common_1 16 rfl rfl)
theorem dX1_common_40 : decode cX1_common 40 = .ok (.getfield 110, 3) := dk_180 0 110 (dk_at dksX1_common_1 17 rfl rfl)
theorem dX1_common_43 : decode cX1_common 43 = .ok (.if_icmp .ge 69, 3) := dk_162 0 69 (dk_at dksX1_common_1 20 rfl rfl)
theorem dX1_common_46 : decode cX1_common 46 = .ok (.aload_n 0, 1) := dk_42 (dk_at dksX1_common_1 23 rfl rfl)
theorem dX1_common_47 : decode cX1_common 47 = .ok (.iload 4, 2) := dk_21 4 (dk_at dksX1_common_2 0 rfl rfl)
theorem dX1_common_49 : decode cX1_common 49 = .ok (.iload 5, 2) := dk_21 5 (dk_at dksX1_common_2 2 rfl rfl)
theorem dX1_common_51 : decode cX1_common 51 = .ok (.invokevirtual 286, 3) := dk_182 1 30 (dk_at dksX1_common_2 4 rfl rfl)
theorem dX1_common_54 : decode cX1_common 54 = .ok (.istore 6, 2) := dk_54 6 (dk_at dksX1_common_2 7 rfl rfl)
theorem dX1_common_56 : decode cX1_common 56 = .ok (.aload_n 0, 1) := dk_42 (dk_at dksX1_common_2 9 rfl rfl)
theorem dX1_common_57 : decode cX1_common 57 = .ok (.getfield 88, 3) := dk_180 0 88 (dk_at dksX1_common_2 10 rfl rfl)
theorem dX1_common_60 : decode cX1_common 60 = .ok (.iload 4, 2) := dk_21 4 (dk_at dksX1_common_2 13 rfl rfl)
theorem dX1_common_62 : decode cX1_common 62 = .ok (.iload 6, 2) := dk_21 6 (dk_at dksX1_common_2 15 rfl rfl)
theorem dX1_common_64 : decode cX1_common 64 = .ok (.ifCond .lt 34, 3) := dk_155 0 34 (dk_at dksX1_common_2 17 rfl rfl)
theorem dX1_common_67 : decode cX1_common 67 = .ok (.aload_n 0, 1) := dk_42 (dk_at dksX1_common_2 20 rfl rfl)
theorem dX1_common_68 : decode cX1_common 68 = .ok (.getfield 88, 3) := dk_180 0 88 (dk_at dksX1_common_2 21 rfl rfl)
theorem dX1_common_71 : decode cX1_common 71 = .ok (.iload 6, 2) := dk_21 6 (dk_at dksX1_common_3 0 rfl rfl)
theorem dX1_common_73 : decode cX1_common 73 = .ok (.iaload, 1) := dk_46 (dk_at dksX1_common_3 2 rfl rfl)
theorem dX1_common_74 : decode cX1_common 74 = .ok (.iconst 1, 1) := dk_4 (dk_at dksX1_common_3 3 rfl rfl)
theorem dX1_common_75 : decode cX1_common 75 = .ok (.iadd, 1) := dk_96 (dk_at dksX1_common_3 4 rfl rfl)
theorem dX1_common_76 : decode cX1_common 76 = .ok (.aload_n 0, 1) := dk_42 (dk_at dksX1_common_3 5 rfl rfl)
theorem dX1_common_77 : decode cX1_common 77 = .ok (.getfield 88, 3) := dk_180 0 88 (dk_at dksX1_common_3 6 rfl rfl)
theorem dX1_common_80 : decode cX1_common 80 = .ok (.iload 4, 2) := dk_21 4 (dk_at dksX1_common_3 9 rfl rfl)
theorem dX1_common_82 : decode cX1_common 82 = .ok (.iaload, 1) := dk_46 (dk_at dksX1_common_3 11 rfl rfl)
theorem dX1_common_83 : decode cX1_common 83 = .ok (.if_icmp .le 15, 3) := dk_164 0 15 (dk_at dksX1_common_3 12 rfl rfl)
theorem dX1_common_86 : decode cX1_common 86 = .ok (.aload_n 0, 1) := dk_42 (dk_at dksX1_common_3 15 rfl rfl)
theorem dX1_common_87 : decode cX1_common 87 = .ok (.getfield 88, 3) := dk_180 0 88 (dk_at dksX1_common_3 16 rfl rfl)
theorem dX1_common_90 : decode cX1_common 90 = .ok (.iload 6, 2) := dk_21 6 (dk_at dksX1_common_3 19 rfl rfl)
theorem dX1_common_92 : decode cX1_common 92 = .ok (.iaload, 1) := dk_46 (dk_at dksX1_common_3 21 rfl rfl)
theorem dX1_common_93 : decode cX1_common 93 = .ok (.iconst 1, 1) := dk_4 (dk_at dksX1_common_3 22 rfl rfl)
theorem dX1_common_94 : decode cX1_common 94 = .ok (.iadd, 1) := dk_96 (dk_at dksX1_common_3 23 rfl rfl)
theorem dX1_common_95 : decode cX1_common 95 = .ok (.goto 10, 3) := dk_167 0 10 (dk_at dksX1_common_4 0 rfl rfl)
theorem dX1_common_98 : decode cX1_common 98 = .ok (.aload_n 0, 1) := dk_42 (dk_at dksX1_common_4 3 rfl rfl)
theorem dX1_common_99 : decode cX1_common 99 = .ok (.getfield 88, 3) := dk_180 0 88 (dk_at dksX1_common_4 4 rfl rfl)
theorem dX1_common_102 : decode cX1_common 102 = .ok (.iload 4, 2) := dk_21 4 (dk_at dksX1_common_4 7 rfl rfl)
theorem dX1_common_104 : decode cX1_common 104 = .ok (.iaload, 1) := dk_46 (dk_at dksX1_common_4 9 rfl rfl)
theorem dX1_common_105 : decode cX1_common 105 = .ok (.iastore, 1) := dk_79 (dk_at dksX1_common_4 10 rfl rfl)
theorem dX1_common_106 : decode cX1_common 106 = .ok (.iinc 5 1, 3) := dk_132 5 1 (dk_at dksX1_common_4 11 rfl rfl)
theorem dX1_common_109 : decode cX1_common 109 = .ok (.goto (-72), 3) := dk_167 255 184 (dk_at dksX1_common_4 14 rfl rfl)
theorem dX1_common_112 : decode cX1_common 112 = .ok (.iinc 4 (-1), 3) := dk_132 4 255 (dk_at dksX1_common_4 17 rfl rfl)
theorem dX1_common_115 : decode cX1_common 115 = .ok (.goto (-94), 3) := dk_167 255 162 (dk_at dksX1_common_4 20 rfl rfl)
theorem dX1_common_118 : decode cX1_common 118 = .ok (.aload_n 0, 1) := dk_42 (dk_at dksX1_common_4 23 rfl rfl)
theorem dX1_common_119 : decode cX1_common 119 = .ok (.getfield 88, 3) := dk_180 0 88 (dk_at dksX1_common_5 0 rfl rfl)
theorem dX1_common_122 : decode cX1_common 122 = .ok (.iconst 0, 1) := dk_3 (dk_at dksX1_common_5 3 rfl rfl)
theorem dX1_common_123 : decode cX1_common 123 = .ok (.iaload, 1) := dk_46 (dk_at dksX1_common_5 4 rfl rfl)
theorem dX1_common_124 : decode cX1_common 124 = .ok (.istore 4, 2) := dk_54 4 (dk_at dksX1_common_5 5 rfl rfl)
theorem dX1_common_126 : decode cX1_common 126 = .ok (.iconst 0, 1) := dk_3 (dk_at dksX1_common_5 7 rfl rfl)
theorem dX1_common_127 : decode cX1_common 127 = .ok (.istore 5, 2) := dk_54 5 (dk_at dksX1_common_5 8 rfl rfl)
theorem dX1_common_129 : decode cX1_common 129 = .ok (.aload_n 0, 1) := dk_42 (dk_at dksX1_common_5 10 rfl rfl)
theorem dX1_common_130 : decode cX1_common 130 = .ok (.iconst 0, 1) := dk_3 (dk_at dksX1_common_5 11 rfl rfl)
theorem dX1_common_131 : decode cX1_common 131 = .ok (.putfield 151, 3) := dk_181 0 151 (dk_at dksX1_common_5 12 rfl rfl)
theorem dX1_common_134 : decode cX1_common 134 = .ok (.aload_n 0, 1) := dk_42 (dk_at dksX1_common_5 15 rfl rfl)
theorem dX1_common_135 : decode cX1_common 135 = .ok (.getfield 151, 3) := dk_180 0 151 (dk_at dksX1_common_5 16 rfl rfl)
theorem dX1_common_138 : decode cX1_common 138 = .ok (.iload 4, 2) := dk_21 4 (dk_at dksX1_common_5 19 rfl rfl)
theorem dX1_common_140 : decode cX1_common 140 = .ok (.if_icmp .ge 84, 3) := dk_162 0 84 (dk_at dksX1_common_5 21 rfl rfl)
theorem dX1_common_143 : decode cX1_common 143 = .ok (.iconst 0, 1) := dk_3 (dk_at dksX1_common_6 0 rfl rfl)
theorem dX1_common_144 : decode cX1_common 144 = .ok (.istore 6, 2) := dk_54 6 (dk_at dksX1_common_6 1 rfl rfl)
theorem dX1_common_146 : decode cX1_common 146 = .ok (.aload_n 0, 1) := dk_42 (dk_at dksX1_common_6 3 rfl rfl)
theorem dX1_common_147 : decode cX1_common 147 = .ok (.iload 5, 2) := dk_21 5 (dk_at dksX1_common_6 4 rfl rfl)
theorem dX1_common_149 : decode cX1_common 149 = .ok (.iload 6, 2) := dk_21 6 (dk_at dksX1_common_6 6 rfl rfl)
theorem dX1_common_151 : decode cX1_common 151 = .ok (.invokevirtual 286, 3) := dk_182 1 30 (dk_at dksX1_common_6 8 rfl rfl)
theorem dX1_common_154 : decode cX1_common 154 = .ok (.istore 7, 2) := dk_54 7 (dk_at dksX1_common_6 11 rfl rfl)
theorem dX1_common_156 : decode cX1_common 156 = .ok (.iload 7, 2) := dk_21 7 (dk_at dksX1_common_6 13 rfl rfl)
theorem dX1_common_158 : decode cX1_common 158 = .ok (.ifCond .lt 22, 3) := dk_155 0 22 (dk_at dksX1_common_6 15 rfl rfl)
theorem dX1_common_161 : decode cX1_common 161 = .ok (.aload_n 0, 1) := dk_42 (dk_at dksX1_common_6 18 rfl rfl)
theorem dX1_common_162 : decode cX1_common 162 = .ok (.getfield 88, 3) := dk_180 0 88 (dk_at dksX1_common_6 19 rfl rfl)
theorem dX1_common_165 : decode cX1_common 165 = .ok (.iload 7, 2) := dk_21 7 (dk_at dksX1_common_6 22 rfl rfl)
theorem dX1_common_167 : decode cX1_common 167 = .ok (.iaload, 1) := dk_46 (dk_at dksX1_common_7 0 rfl rfl)
theorem dX1_common_168 : decode cX1_common 168 = .ok (.iconst 1, 1) := dk_4 (dk_at dksX1_common_7 1 rfl rfl)
theorem dX1_common_169 : decode cX1_common 169 = .ok (.iadd, 1) := dk_96 (dk_at dksX1_common_7 2 rfl rfl)
theorem dX1_common_170 : decode cX1_common 170 = .ok (.aload_n 0, 1) := dk_42 (dk_at dksX1_common_7 3 rfl rfl)
theorem dX1_common_171 : decode cX1_common 171 = .ok (.getfield 88, 3) := dk_180 0 88 (dk_at dksX1_common_7 4 rfl rfl)
theorem dX1_common_174 : decode cX1_common 174 = .ok (.iload 5, 2) := dk_21 5 (dk_at dksX1_common_7 7 rfl rfl)
theorem dX1_common_176 : decode cX1_common 176 = .ok (.iaload, 1) := dk_46 (dk_at dksX1_common_7 9 rfl rfl)
theorem dX1_common_177 : decode cX1_common 177 = .ok (.if_icmp .ge 19, 3) := dk_162 0 19 (dk_at dksX1_common_7 10 rfl rfl)
theorem dX1_common_180 : decode cX1_common 180 = .ok (.iinc 6 1, 3) := dk_132 6 1 (dk_at dksX1_common_7 13 rfl rfl)
theorem dX1_common_183 : decode cX1_common 183 = .ok (.aload_n 0, 1) := dk_42 (dk_at dksX1_common_7 16 rfl rfl)
theorem dX1_common_184 : decode cX1_common 184 = .ok (.iload 5, 2) := dk_21 5 (dk_at dksX1_common_7 17 rfl rfl)
theorem dX1_common_186 : decode cX1_common 186 = .ok (.iload 6, 2) := dk_21 6 (dk_at dksX1_common_7 19 rfl rfl)
theorem dX1_common_188 : decode cX1_common 188 = .ok (.invokevirtual 286, 3) := dk_182 1 30 (dk_at dksX1_common_7 21 rfl rfl)
theorem dX1_common_191 : decode cX1_common 191 = .ok (.istore 7, 2) := dk_54 7 (dk_at dksX1_common_8 0 rfl rfl)
theorem dX1_common_193 : decode cX1_common 193 = .ok (.goto (-37), 3) := dk_167 255 219 (dk_at dksX1_common_8 2 rfl rfl)
theorem dX1_common_196 : decode cX1_common 196 = .ok (.aload_n 0, 1) := dk_42 (dk_at dksX1_common_8 5 rfl rfl)
theorem dX1_common_197 : decode cX1_common 197 = .ok (.getfield 44, 3) := dk_180 0 44 (dk_at dksX1_common_8 6 rfl rfl)
theorem dX1_common_200 : decode cX1_common 200 = .ok (.aload_n 0, 1) := dk_42 (dk_at dksX1_common_8 9 rfl rfl)
theorem dX1_common_201 : decode cX1_common 201 = .ok (.getfield 151, 3) := dk_180 0 151 (dk_at dksX1_common_8 10 rfl rfl)
theorem dX1_common_204 : decode cX1_common 204 = .ok (.iload 6, 2) := dk_21 6 (dk_at dksX1_common_8 13 rfl rfl)
theorem dX1_common_206 : decode cX1_common 206 = .ok (.iastore, 1) := dk_79 (dk_at dksX1_common_8 15 rfl rfl)
theorem dX1_common_207 : decode cX1_common 207 = .ok (.aload_n 0, 1) := dk_42 (dk_at dksX1_common_8 16 rfl rfl)
theorem dX1_common_208 : decode cX1_common 208 = .ok (.dup, 1) := dk_89 (dk_at dksX1_common_8 17 rfl rfl)
theorem dX1_common_209 : decode cX1_common 209 = .ok (.getfield 151, 3) := dk_180 0 151 (dk_at dksX1_common_8 18 rfl rfl)
theorem dX1_common_212 : decode cX1_common 212 = .ok (.iconst 1, 1) := dk_4 (dk_at dksX1_common_8 21 rfl rfl)
theorem dX1_common_213 : decode cX1_common 213 = .ok (.iadd, 1) := dk_96 (dk_at dksX1_common_8 22 rfl rfl)
theorem dX1_common_214 : decode cX1_common 214 = .ok (.putfield 151, 3) := dk_181 0 151 (dk_at dksX1_common_9 0 rfl rfl)
theorem dX1_common_217 : decode cX1_common 217 = .ok (.iload 7, 2) := dk_21 7 (dk_at dksX1_common_9 3 rfl rfl)
theorem dX1_common_219 : decode cX1_common 219 = .ok (.istore 5, 2) := dk_54 5 (dk_at dksX1_common_9 5 rfl rfl)
theorem dX1_common_221 : decode cX1_common 221 = .ok (.goto (-87), 3) := dk_167 255 169 (dk_at dksX1_common_9 7 rfl rfl)
theorem dX1_common_224 : decode cX1_common 224 = .ok (.aload_n 0, 1) := dk_42 (dk_at dksX1_common_9 10 rfl rfl)
theorem dX1_common_225 : decode cX1_common 225 = .ok (.iload_n 2, 1) := dk_28 (dk_at dksX1_common_9 11 rfl rfl)
theorem dX1_common_226 : decode cX1_common 226 = .ok (.invokevirtual 214, 3) := dk_182 0 214 (dk_at dksX1_common_9 12 rfl rfl)
theorem dX1_common_229 : decode cX1_common 229 = .ok (.iload 4, 2) := dk_21 4 (dk_at dksX1_common_9 15 rfl rfl)
theorem dX1_common_231 : decode cX1_common 231 = .ok (.ireturn, 1) := dk_172 (dk_at dksX1_common_9 17 rfl rfl)
abbrev cX1_needSeveral : ByteArray := prog_8_method_81_code
def yX1_needSeveral : MethodName := ⟨RX1, "needSeveral", "(II)I"⟩
def dkwX1_needSeveral_6 : List UInt8 := [16, 250, 167, 0, 4, 3, 172]
abbrev dktX1_needSeveral_6 : List UInt8 := dkwX1_needSeveral_6 ++ []
def dkwX1_needSeveral_5 : List UInt8 := [167, 255, 183, 21, 4, 154, 0, 11, 42, 4, 182, 0, 134, 167, 0, 16, 29, 17, 78, 32, 164, 0, 8]
abbrev dktX1_needSeveral_5 : List UInt8 := dkwX1_needSeveral_5 ++ dktX1_needSeveral_6
def dkwX1_needSeveral_4 : List UInt8 := [180, 0, 29, 21, 5, 46, 4, 96, 104, 62, 42, 89, 180, 1, 14, 4, 96, 181, 1, 14, 132, 5, 1]
abbrev dktX1_needSeveral_4 : List UInt8 := dkwX1_needSeveral_4 ++ dktX1_needSeveral_5
def dkwX1_needSeveral_3 : List UInt8 := [153, 0, 7, 4, 167, 0, 4, 3, 54, 4, 42, 180, 0, 85, 42, 180, 1, 14, 21, 5, 79, 29, 42]
abbrev dktX1_needSeveral_3 : List UInt8 := dkwX1_needSeveral_3 ++ dktX1_needSeveral_4
def dkwX1_needSeveral_2 : List UInt8 := [162, 0, 72, 27, 21, 5, 184, 0, 243, 153, 0, 57, 21, 4, 153, 0, 16, 42, 21, 5, 182, 0, 185]
abbrev dktX1_needSeveral_2 : List UInt8 := dkwX1_needSeveral_2 ++ dktX1_needSeveral_3
def dkwX1_needSeveral_1 : List UInt8 := [154, 0, 5, 2, 172, 42, 3, 181, 1, 14, 4, 62, 4, 54, 4, 3, 54, 5, 21, 5, 16, 8]
abbrev dktX1_needSeveral_1 : List UInt8 := dkwX1_needSeveral_1 ++ dktX1_needSeveral_2
def dkwX1_needSeveral_0 : List UInt8 := [27, 4, 17, 0, 255, 184, 0, 117, 153, 0, 18, 27, 184, 1, 11, 7, 163, 0, 10, 28, 184, 0, 130]
abbrev dktX1_needSeveral_0 : List UInt8 := dkwX1_needSeveral_0 ++ dktX1_needSeveral_1
theorem dksX1_needSeveral_0 : cX1_needSeveral.data.toList.drop 0 = dktX1_needSeveral_0 := by decide +kernel
theorem dksX1_needSeveral_1 : cX1_needSeveral.data.toList.drop 23 = dktX1_needSeveral_1 := dk_seg dksX1_needSeveral_0 23 rfl rfl
theorem dksX1_needSeveral_2 : cX1_needSeveral.data.toList.drop 45 = dktX1_needSeveral_2 := dk_seg dksX1_needSeveral_1 22 rfl rfl
theorem dksX1_needSeveral_3 : cX1_needSeveral.data.toList.drop 68 = dktX1_needSeveral_3 := dk_seg dksX1_needSeveral_2 23 rfl rfl
theorem dksX1_needSeveral_4 : cX1_needSeveral.data.toList.drop 91 = dktX1_needSeveral_4 := dk_seg dksX1_needSeveral_3 23 rfl rfl
theorem dksX1_needSeveral_5 : cX1_needSeveral.data.toList.drop 114 = dktX1_needSeveral_5 := dk_seg dksX1_needSeveral_4 23 rfl rfl
theorem dksX1_needSeveral_6 : cX1_needSeveral.data.toList.drop 137 = dktX1_needSeveral_6 := dk_seg dksX1_needSeveral_5 23 rfl rfl
theorem dX1_needSeveral_0 : decode cX1_needSeveral 0 = .ok (.iload_n 1, 1) := dk_27 (dk_at dksX1_needSeveral_0 0 rfl rfl)
theorem dX1_needSeveral_1 : decode cX1_needSeveral 1 = .ok (.iconst 1, 1) := dk_4 (dk_at dksX1_needSeveral_0 1 rfl rfl)
theorem dX1_needSeveral_2 : decode cX1_needSeveral 2 = .ok (.sipush 255, 3) := dk_17 0 255 (dk_at dksX1_needSeveral_0 2 rfl rfl)
theorem dX1_needSeveral_5 : decode cX1_needSeveral 5 = .ok (.invokestatic 117, 3) := dk_184 0 117 (dk_at dksX1_needSeveral_0 5 rfl rfl)
theorem dX1_needSeveral_8 : decode cX1_needSeveral 8 = .ok (.ifCond .eq 18, 3) := dk_153 0 18 (dk_at dksX1_needSeveral_0 8 rfl rfl)
theorem dX1_needSeveral_11 : decode cX1_needSeveral 11 = .ok (.iload_n 1, 1) := dk_27 (dk_at dksX1_needSeveral_0 11 rfl rfl)
theorem dX1_needSeveral_12 : decode cX1_needSeveral 12 = .ok (.invokestatic 267, 3) := dk_184 1 11 (dk_at dksX1_needSeveral_0 12 rfl rfl)
theorem dX1_needSeveral_15 : decode cX1_needSeveral 15 = .ok (.iconst 4, 1) := dk_7 (dk_at dksX1_needSeveral_0 15 rfl rfl)
theorem dX1_needSeveral_16 : decode cX1_needSeveral 16 = .ok (.if_icmp .gt 10, 3) := dk_163 0 10 (dk_at dksX1_needSeveral_0 16 rfl rfl)
theorem dX1_needSeveral_19 : decode cX1_needSeveral 19 = .ok (.iload_n 2, 1) := dk_28 (dk_at dksX1_needSeveral_0 19 rfl rfl)
theorem dX1_needSeveral_20 : decode cX1_needSeveral 20 = .ok (.invokestatic 130, 3) := dk_184 0 130 (dk_at dksX1_needSeveral_0 20 rfl rfl)
theorem dX1_needSeveral_23 : decode cX1_needSeveral 23 = .ok (.ifCond .ne 5, 3) := dk_154 0 5 (dk_at dksX1_needSeveral_1 0 rfl rfl)
theorem dX1_needSeveral_26 : decode cX1_needSeveral 26 = .ok (.iconst (-1), 1) := dk_2 (dk_at dksX1_needSeveral_1 3 rfl rfl)
theorem dX1_needSeveral_27 : decode cX1_needSeveral 27 = .ok (.ireturn, 1) := dk_172 (dk_at dksX1_needSeveral_1 4 rfl rfl)
theorem dX1_needSeveral_28 : decode cX1_needSeveral 28 = .ok (.aload_n 0, 1) := dk_42 (dk_at dksX1_needSeveral_1 5 rfl rfl)
theorem dX1_needSeveral_29 : decode cX1_needSeveral 29 = .ok (.iconst 0, 1) := dk_3 (dk_at dksX1_needSeveral_1 6 rfl rfl)
theorem dX1_needSeveral_30 : decode cX1_needSeveral 30 = .ok (.putfield 270, 3) := dk_181 1 14 (dk_at dksX1_needSeveral_1 7 rfl rfl)
theorem dX1_needSeveral_33 : decode cX1_needSeveral 33 = .ok (.iconst 1, 1) := dk_4 (dk_at dksX1_needSeveral_1 10 rfl rfl)
theorem dX1_needSeveral_34 : decode cX1_needSeveral 34 = .ok (.istore_n 3, 1) := dk_62 (dk_at dksX1_needSeveral_1 11 rfl rfl)
theorem dX1_needSeveral_35 : decode cX1_needSeveral 35 = .ok (.iconst 1, 1) := dk_4 (dk_at dksX1_needSeveral_1 12 rfl rfl)
theorem dX1_needSeveral_36 : decode cX1_needSeveral 36 = .ok (.istore 4, 2) := dk_54 4 (dk_at dksX1_needSeveral_1 13 rfl rfl)
theorem dX1_needSeveral_38 : decode cX1_needSeveral 38 = .ok (.iconst 0, 1) := dk_3 (dk_at dksX1_needSeveral_1 15 rfl rfl)
theorem dX1_needSeveral_39 : decode cX1_needSeveral 39 = .ok (.istore 5, 2) := dk_54 5 (dk_at dksX1_needSeveral_1 16 rfl rfl)
theorem dX1_needSeveral_41 : decode cX1_needSeveral 41 = .ok (.iload 5, 2) := dk_21 5 (dk_at dksX1_needSeveral_1 18 rfl rfl)
theorem dX1_needSeveral_43 : decode cX1_needSeveral 43 = .ok (.bipush 8, 2) := dk_16 8 (dk_at dksX1_needSeveral_1 20 rfl rfl)
theorem dX1_needSeveral_45 : decode cX1_needSeveral 45 = .ok (.if_icmp .ge 72, 3) := dk_162 0 72 (dk_at dksX1_needSeveral_2 0 rfl rfl)
theorem dX1_needSeveral_48 : decode cX1_needSeveral 48 = .ok (.iload_n 1, 1) := dk_27 (dk_at dksX1_needSeveral_2 3 rfl rfl)
theorem dX1_needSeveral_49 : decode cX1_needSeveral 49 = .ok (.iload 5, 2) := dk_21 5 (dk_at dksX1_needSeveral_2 4 rfl rfl)
theorem dX1_needSeveral_51 : decode cX1_needSeveral 51 = .ok (.invokestatic 243, 3) := dk_184 0 243 (dk_at dksX1_needSeveral_2 6 rfl rfl)
theorem dX1_needSeveral_54 : decode cX1_needSeveral 54 = .ok (.ifCond .eq 57, 3) := dk_153 0 57 (dk_at dksX1_needSeveral_2 9 rfl rfl)
theorem dX1_needSeveral_57 : decode cX1_needSeveral 57 = .ok (.iload 4, 2) := dk_21 4 (dk_at dksX1_needSeveral_2 12 rfl rfl)
theorem dX1_needSeveral_59 : decode cX1_needSeveral 59 = .ok (.ifCond .eq 16, 3) := dk_153 0 16 (dk_at dksX1_needSeveral_2 14 rfl rfl)
theorem dX1_needSeveral_62 : decode cX1_needSeveral 62 = .ok (.aload_n 0, 1) := dk_42 (dk_at dksX1_needSeveral_2 17 rfl rfl)
theorem dX1_needSeveral_63 : decode cX1_needSeveral 63 = .ok (.iload 5, 2) := dk_21 5 (dk_at dksX1_needSeveral_2 18 rfl rfl)
theorem dX1_needSeveral_65 : decode cX1_needSeveral 65 = .ok (.invokevirtual 185, 3) := dk_182 0 185 (dk_at dksX1_needSeveral_2 20 rfl rfl)
theorem dX1_needSeveral_68 : decode cX1_needSeveral 68 = .ok (.ifCond .eq 7, 3) := dk_153 0 7 (dk_at dksX1_needSeveral_3 0 rfl rfl)
theorem dX1_needSeveral_71 : decode cX1_needSeveral 71 = .ok (.iconst 1, 1) := dk_4 (dk_at dksX1_needSeveral_3 3 rfl rfl)
theorem dX1_needSeveral_72 : decode cX1_needSeveral 72 = .ok (.goto 4, 3) := dk_167 0 4 (dk_at dksX1_needSeveral_3 4 rfl rfl)
theorem dX1_needSeveral_75 : decode cX1_needSeveral 75 = .ok (.iconst 0, 1) := dk_3 (dk_at dksX1_needSeveral_3 7 rfl rfl)
theorem dX1_needSeveral_76 : decode cX1_needSeveral 76 = .ok (.istore 4, 2) := dk_54 4 (dk_at dksX1_needSeveral_3 8 rfl rfl)
theorem dX1_needSeveral_78 : decode cX1_needSeveral 78 = .ok (.aload_n 0, 1) := dk_42 (dk_at dksX1_needSeveral_3 10 rfl rfl)
theorem dX1_needSeveral_79 : decode cX1_needSeveral 79 = .ok (.getfield 85, 3) := dk_180 0 85 (dk_at dksX1_needSeveral_3 11 rfl rfl)
theorem dX1_needSeveral_82 : decode cX1_needSeveral 82 = .ok (.aload_n 0, 1) := dk_42 (dk_at dksX1_needSeveral_3 14 rfl rfl)
theorem dX1_needSeveral_83 : decode cX1_needSeveral 83 = .ok (.getfield 270, 3) := dk_180 1 14 (dk_at dksX1_needSeveral_3 15 rfl rfl)
theorem dX1_needSeveral_86 : decode cX1_needSeveral 86 = .ok (.iload 5, 2) := dk_21 5 (dk_at dksX1_needSeveral_3 18 rfl rfl)
theorem dX1_needSeveral_88 : decode cX1_needSeveral 88 = .ok (.iastore, 1) := dk_79 (dk_at dksX1_needSeveral_3 20 rfl rfl)
theorem dX1_needSeveral_89 : decode cX1_needSeveral 89 = .ok (.iload_n 3, 1) := dk_29 (dk_at dksX1_needSeveral_3 21 rfl rfl)
theorem dX1_needSeveral_90 : decode cX1_needSeveral 90 = .ok (.aload_n 0, 1) := dk_42 (dk_at dksX1_needSeveral_3 22 rfl rfl)
theorem dX1_needSeveral_91 : decode cX1_needSeveral 91 = .ok (.getfield 29, 3) := dk_180 0 29 (dk_at dksX1_needSeveral_4 0 rfl rfl)
theorem dX1_needSeveral_94 : decode cX1_needSeveral 94 = .ok (.iload 5, 2) := dk_21 5 (dk_at dksX1_needSeveral_4 3 rfl rfl)
theorem dX1_needSeveral_96 : decode cX1_needSeveral 96 = .ok (.iaload, 1) := dk_46 (dk_at dksX1_needSeveral_4 5 rfl rfl)
theorem dX1_needSeveral_97 : decode cX1_needSeveral 97 = .ok (.iconst 1, 1) := dk_4 (dk_at dksX1_needSeveral_4 6 rfl rfl)
theorem dX1_needSeveral_98 : decode cX1_needSeveral 98 = .ok (.iadd, 1) := dk_96 (dk_at dksX1_needSeveral_4 7 rfl rfl)
theorem dX1_needSeveral_99 : decode cX1_needSeveral 99 = .ok (.imul, 1) := dk_104 (dk_at dksX1_needSeveral_4 8 rfl rfl)
theorem dX1_needSeveral_100 : decode cX1_needSeveral 100 = .ok (.istore_n 3, 1) := dk_62 (dk_at dksX1_needSeveral_4 9 rfl rfl)
theorem dX1_needSeveral_101 : decode cX1_needSeveral 101 = .ok (.aload_n 0, 1) := dk_42 (dk_at dksX1_needSeveral_4 10 rfl rfl)
theorem dX1_needSeveral_102 : decode cX1_needSeveral 102 = .ok (.dup, 1) := dk_89 (dk_at dksX1_needSeveral_4 11 rfl rfl)
theorem dX1_needSeveral_103 : decode cX1_needSeveral 103 = .ok (.getfield 270, 3) := dk_180 1 14 (dk_at dksX1_needSeveral_4 12 rfl rfl)
theorem dX1_needSeveral_106 : decode cX1_needSeveral 106 = .ok (.iconst 1, 1) := dk_4 (dk_at dksX1_needSeveral_4 15 rfl rfl)
theorem dX1_needSeveral_107 : decode cX1_needSeveral 107 = .ok (.iadd, 1) := dk_96 (dk_at dksX1_needSeveral_4 16 rfl rfl)
theorem dX1_needSeveral_108 : decode cX1_needSeveral 108 = .ok (.putfield 270, 3) := dk_181 1 14 (dk_at dksX1_needSeveral_4 17 rfl rfl)
theorem dX1_needSeveral_111 : decode cX1_needSeveral 111 = .ok (.iinc 5 1, 3) := dk_132 5 1 (dk_at dksX1_needSeveral_4 20 rfl rfl)
theorem dX1_needSeveral_114 : decode cX1_needSeveral 114 = .ok (.goto (-73), 3) := dk_167 255 183 (dk_at dksX1_needSeveral_5 0 rfl rfl)
theorem dX1_needSeveral_117 : decode cX1_needSeveral 117 = .ok (.iload 4, 2) := dk_21 4 (dk_at dksX1_needSeveral_5 3 rfl rfl)
theorem dX1_needSeveral_119 : decode cX1_needSeveral 119 = .ok (.ifCond .ne 11, 3) := dk_154 0 11 (dk_at dksX1_needSeveral_5 5 rfl rfl)
theorem dX1_needSeveral_122 : decode cX1_needSeveral 122 = .ok (.aload_n 0, 1) := dk_42 (dk_at dksX1_needSeveral_5 8 rfl rfl)
theorem dX1_needSeveral_123 : decode cX1_needSeveral 123 = .ok (.iconst 1, 1) := dk_4 (dk_at dksX1_needSeveral_5 9 rfl rfl)
theorem dX1_needSeveral_124 : decode cX1_needSeveral 124 = .ok (.invokevirtual 134, 3) := dk_182 0 134 (dk_at dksX1_needSeveral_5 10 rfl rfl)
theorem dX1_needSeveral_127 : decode cX1_needSeveral 127 = .ok (.goto 16, 3) := dk_167 0 16 (dk_at dksX1_needSeveral_5 13 rfl rfl)
theorem dX1_needSeveral_130 : decode cX1_needSeveral 130 = .ok (.iload_n 3, 1) := dk_29 (dk_at dksX1_needSeveral_5 16 rfl rfl)
theorem dX1_needSeveral_131 : decode cX1_needSeveral 131 = .ok (.sipush 20000, 3) := dk_17 78 32 (dk_at dksX1_needSeveral_5 17 rfl rfl)
theorem dX1_needSeveral_134 : decode cX1_needSeveral 134 = .ok (.if_icmp .le 8, 3) := dk_164 0 8 (dk_at dksX1_needSeveral_5 20 rfl rfl)
theorem dX1_needSeveral_137 : decode cX1_needSeveral 137 = .ok (.bipush (-6), 2) := dk_16 250 (dk_at dksX1_needSeveral_6 0 rfl rfl)
theorem dX1_needSeveral_139 : decode cX1_needSeveral 139 = .ok (.goto 4, 3) := dk_167 0 4 (dk_at dksX1_needSeveral_6 2 rfl rfl)
theorem dX1_needSeveral_142 : decode cX1_needSeveral 142 = .ok (.iconst 0, 1) := dk_3 (dk_at dksX1_needSeveral_6 5 rfl rfl)
theorem dX1_needSeveral_143 : decode cX1_needSeveral 143 = .ok (.ireturn, 1) := dk_172 (dk_at dksX1_needSeveral_6 6 rfl rfl)
abbrev cX1_bits : ByteArray := prog_8_method_80_code
def yX1_bits : MethodName := ⟨RX1, "bits", "(I)I"⟩
def dkwX1_bits_1 : List UInt8 := [27, 172]
abbrev dktX1_bits_1 : List UInt8 := dkwX1_bits_1 ++ []
def dkwX1_bits_0 : List UInt8 := [3, 60, 3, 61, 28, 16, 8, 162, 0, 17, 27, 26, 28, 122, 4, 126, 96, 60, 132, 2, 1, 167, 255, 239]
abbrev dktX1_bits_0 : List UInt8 := dkwX1_bits_0 ++ dktX1_bits_1
theorem dksX1_bits_0 : cX1_bits.data.toList.drop 0 = dktX1_bits_0 := by decide +kernel
theorem dksX1_bits_1 : cX1_bits.data.toList.drop 24 = dktX1_bits_1 := dk_seg dksX1_bits_0 24 rfl rfl
theorem dX1_bits_0 : decode cX1_bits 0 = .ok (.iconst 0, 1) := dk_3 (dk_at dksX1_bits_0 0 rfl rfl)
theorem dX1_bits_1 : decode cX1_bits 1 = .ok (.istore_n 1, 1) := dk_60 (dk_at dksX1_bits_0 1 rfl rfl)
theorem dX1_bits_2 : decode cX1_bits 2 = .ok (.iconst 0, 1) := dk_3 (dk_at dksX1_bits_0 2 rfl rfl)
theorem dX1_bits_3 : decode cX1_bits 3 = .ok (.istore_n 2, 1) := dk_61 (dk_at dksX1_bits_0 3 rfl rfl)
theorem dX1_bits_4 : decode cX1_bits 4 = .ok (.iload_n 2, 1) := dk_28 (dk_at dksX1_bits_0 4 rfl rfl)
theorem dX1_bits_5 : decode cX1_bits 5 = .ok (.bipush 8, 2) := dk_16 8 (dk_at dksX1_bits_0 5 rfl rfl)
theorem dX1_bits_7 : decode cX1_bits 7 = .ok (.if_icmp .ge 17, 3) := dk_162 0 17 (dk_at dksX1_bits_0 7 rfl rfl)
theorem dX1_bits_10 : decode cX1_bits 10 = .ok (.iload_n 1, 1) := dk_27 (dk_at dksX1_bits_0 10 rfl rfl)
theorem dX1_bits_11 : decode cX1_bits 11 = .ok (.iload_n 0, 1) := dk_26 (dk_at dksX1_bits_0 11 rfl rfl)
theorem dX1_bits_12 : decode cX1_bits 12 = .ok (.iload_n 2, 1) := dk_28 (dk_at dksX1_bits_0 12 rfl rfl)
theorem dX1_bits_13 : decode cX1_bits 13 = .ok (.ishr, 1) := dk_122 (dk_at dksX1_bits_0 13 rfl rfl)
theorem dX1_bits_14 : decode cX1_bits 14 = .ok (.iconst 1, 1) := dk_4 (dk_at dksX1_bits_0 14 rfl rfl)
theorem dX1_bits_15 : decode cX1_bits 15 = .ok (.iand, 1) := dk_126 (dk_at dksX1_bits_0 15 rfl rfl)
theorem dX1_bits_16 : decode cX1_bits 16 = .ok (.iadd, 1) := dk_96 (dk_at dksX1_bits_0 16 rfl rfl)
theorem dX1_bits_17 : decode cX1_bits 17 = .ok (.istore_n 1, 1) := dk_60 (dk_at dksX1_bits_0 17 rfl rfl)
theorem dX1_bits_18 : decode cX1_bits 18 = .ok (.iinc 2 1, 3) := dk_132 2 1 (dk_at dksX1_bits_0 18 rfl rfl)
theorem dX1_bits_21 : decode cX1_bits 21 = .ok (.goto (-17), 3) := dk_167 255 239 (dk_at dksX1_bits_0 21 rfl rfl)
theorem dX1_bits_24 : decode cX1_bits 24 = .ok (.iload_n 1, 1) := dk_27 (dk_at dksX1_bits_1 0 rfl rfl)
theorem dX1_bits_25 : decode cX1_bits 25 = .ok (.ireturn, 1) := dk_172 (dk_at dksX1_bits_1 1 rfl rfl)
abbrev cX1_allCodes : ByteArray := prog_8_method_83_code
def yX1_allCodes : MethodName := ⟨RX1, "allCodes", "()I"⟩
def dkwX1_allCodes_1 : List UInt8 := [4, 96, 104, 60, 132, 2, 1, 167, 255, 229, 27, 172]
abbrev dktX1_allCodes_1 : List UInt8 := dkwX1_allCodes_1 ++ []
def dkwX1_allCodes_0 : List UInt8 := [4, 60, 3, 61, 28, 42, 180, 1, 14, 162, 0, 25, 27, 42, 180, 0, 29, 42, 180, 0, 85, 28, 46, 46]
abbrev dktX1_allCodes_0 : List UInt8 := dkwX1_allCodes_0 ++ dktX1_allCodes_1
theorem dksX1_allCodes_0 : cX1_allCodes.data.toList.drop 0 = dktX1_allCodes_0 := by decide +kernel
theorem dksX1_allCodes_1 : cX1_allCodes.data.toList.drop 24 = dktX1_allCodes_1 := dk_seg dksX1_allCodes_0 24 rfl rfl
theorem dX1_allCodes_0 : decode cX1_allCodes 0 = .ok (.iconst 1, 1) := dk_4 (dk_at dksX1_allCodes_0 0 rfl rfl)
theorem dX1_allCodes_1 : decode cX1_allCodes 1 = .ok (.istore_n 1, 1) := dk_60 (dk_at dksX1_allCodes_0 1 rfl rfl)
theorem dX1_allCodes_2 : decode cX1_allCodes 2 = .ok (.iconst 0, 1) := dk_3 (dk_at dksX1_allCodes_0 2 rfl rfl)
theorem dX1_allCodes_3 : decode cX1_allCodes 3 = .ok (.istore_n 2, 1) := dk_61 (dk_at dksX1_allCodes_0 3 rfl rfl)
theorem dX1_allCodes_4 : decode cX1_allCodes 4 = .ok (.iload_n 2, 1) := dk_28 (dk_at dksX1_allCodes_0 4 rfl rfl)
theorem dX1_allCodes_5 : decode cX1_allCodes 5 = .ok (.aload_n 0, 1) := dk_42 (dk_at dksX1_allCodes_0 5 rfl rfl)
theorem dX1_allCodes_6 : decode cX1_allCodes 6 = .ok (.getfield 270, 3) := dk_180 1 14 (dk_at dksX1_allCodes_0 6 rfl rfl)
theorem dX1_allCodes_9 : decode cX1_allCodes 9 = .ok (.if_icmp .ge 25, 3) := dk_162 0 25 (dk_at dksX1_allCodes_0 9 rfl rfl)
theorem dX1_allCodes_12 : decode cX1_allCodes 12 = .ok (.iload_n 1, 1) := dk_27 (dk_at dksX1_allCodes_0 12 rfl rfl)
theorem dX1_allCodes_13 : decode cX1_allCodes 13 = .ok (.aload_n 0, 1) := dk_42 (dk_at dksX1_allCodes_0 13 rfl rfl)
theorem dX1_allCodes_14 : decode cX1_allCodes 14 = .ok (.getfield 29, 3) := dk_180 0 29 (dk_at dksX1_allCodes_0 14 rfl rfl)
theorem dX1_allCodes_17 : decode cX1_allCodes 17 = .ok (.aload_n 0, 1) := dk_42 (dk_at dksX1_allCodes_0 17 rfl rfl)
theorem dX1_allCodes_18 : decode cX1_allCodes 18 = .ok (.getfield 85, 3) := dk_180 0 85 (dk_at dksX1_allCodes_0 18 rfl rfl)
theorem dX1_allCodes_21 : decode cX1_allCodes 21 = .ok (.iload_n 2, 1) := dk_28 (dk_at dksX1_allCodes_0 21 rfl rfl)
theorem dX1_allCodes_22 : decode cX1_allCodes 22 = .ok (.iaload, 1) := dk_46 (dk_at dksX1_allCodes_0 22 rfl rfl)
theorem dX1_allCodes_23 : decode cX1_allCodes 23 = .ok (.iaload, 1) := dk_46 (dk_at dksX1_allCodes_0 23 rfl rfl)
theorem dX1_allCodes_24 : decode cX1_allCodes 24 = .ok (.iconst 1, 1) := dk_4 (dk_at dksX1_allCodes_1 0 rfl rfl)
theorem dX1_allCodes_25 : decode cX1_allCodes 25 = .ok (.iadd, 1) := dk_96 (dk_at dksX1_allCodes_1 1 rfl rfl)
theorem dX1_allCodes_26 : decode cX1_allCodes 26 = .ok (.imul, 1) := dk_104 (dk_at dksX1_allCodes_1 2 rfl rfl)
theorem dX1_allCodes_27 : decode cX1_allCodes 27 = .ok (.istore_n 1, 1) := dk_60 (dk_at dksX1_allCodes_1 3 rfl rfl)
theorem dX1_allCodes_28 : decode cX1_allCodes 28 = .ok (.iinc 2 1, 3) := dk_132 2 1 (dk_at dksX1_allCodes_1 4 rfl rfl)
theorem dX1_allCodes_31 : decode cX1_allCodes 31 = .ok (.goto (-27), 3) := dk_167 255 229 (dk_at dksX1_allCodes_1 7 rfl rfl)
theorem dX1_allCodes_34 : decode cX1_allCodes 34 = .ok (.iload_n 1, 1) := dk_27 (dk_at dksX1_allCodes_1 10 rfl rfl)
theorem dX1_allCodes_35 : decode cX1_allCodes 35 = .ok (.ireturn, 1) := dk_172 (dk_at dksX1_allCodes_1 11 rfl rfl)
abbrev cX1_behindNext : ByteArray := prog_8_method_85_code
def yX1_behindNext : MethodName := ⟨RX1, "behindNext", "(II)I"⟩
def dkwX1_behindNext_3 : List UInt8 := [167, 255, 195, 29, 153, 0, 10, 42, 182, 1, 20, 167, 0, 4, 2, 172]
abbrev dktX1_behindNext_3 : List UInt8 := dkwX1_behindNext_3 ++ []
def dkwX1_behindNext_2 : List UInt8 := [159, 0, 7, 4, 167, 0, 4, 3, 62, 42, 180, 0, 91, 21, 4, 21, 5, 4, 96, 79, 132, 4, 1]
abbrev dktX1_behindNext_2 : List UInt8 := dkwX1_behindNext_2 ++ dktX1_behindNext_3
def dkwX1_behindNext_1 : List UInt8 := [42, 180, 0, 85, 21, 4, 46, 42, 180, 0, 91, 21, 4, 46, 28, 182, 0, 206, 54, 5, 21, 5, 16, 247]
abbrev dktX1_behindNext_1 : List UInt8 := dkwX1_behindNext_1 ++ dktX1_behindNext_2
def dkwX1_behindNext_0 : List UInt8 := [42, 27, 182, 1, 17, 4, 62, 3, 54, 4, 21, 4, 42, 180, 1, 14, 162, 0, 58, 29, 153, 0, 54, 42]
abbrev dktX1_behindNext_0 : List UInt8 := dkwX1_behindNext_0 ++ dktX1_behindNext_1
theorem dksX1_behindNext_0 : cX1_behindNext.data.toList.drop 0 = dktX1_behindNext_0 := by decide +kernel
theorem dksX1_behindNext_1 : cX1_behindNext.data.toList.drop 24 = dktX1_behindNext_1 := dk_seg dksX1_behindNext_0 24 rfl rfl
theorem dksX1_behindNext_2 : cX1_behindNext.data.toList.drop 48 = dktX1_behindNext_2 := dk_seg dksX1_behindNext_1 24 rfl rfl
theorem dksX1_behindNext_3 : cX1_behindNext.data.toList.drop 71 = dktX1_behindNext_3 := dk_seg dksX1_behindNext_2 23 rfl rfl
theorem dX1_behindNext_0 : decode cX1_behindNext 0 = .ok (.aload_n 0, 1) := dk_42 (dk_at dksX1_behindNext_0 0 rfl rfl)
theorem dX1_behindNext_1 : decode cX1_behindNext 1 = .ok (.iload_n 1, 1) := dk_27 (dk_at dksX1_behindNext_0 1 rfl rfl)
theorem dX1_behindNext_2 : decode cX1_behindNext 2 = .ok (.invokevirtual 273, 3) := dk_182 1 17 (dk_at dksX1_behindNext_0 2 rfl rfl)
theorem dX1_behindNext_5 : decode cX1_behindNext 5 = .ok (.iconst 1, 1) := dk_4 (dk_at dksX1_behindNext_0 5 rfl rfl)
theorem dX1_behindNext_6 : decode cX1_behindNext 6 = .ok (.istore_n 3, 1) := dk_62 (dk_at dksX1_behindNext_0 6 rfl rfl)
theorem dX1_behindNext_7 : decode cX1_behindNext 7 = .ok (.iconst 0, 1) := dk_3 (dk_at dksX1_behindNext_0 7 rfl rfl)
theorem dX1_behindNext_8 : decode cX1_behindNext 8 = .ok (.istore 4, 2) := dk_54 4 (dk_at dksX1_behindNext_0 8 rfl rfl)
theorem dX1_behindNext_10 : decode cX1_behindNext 10 = .ok (.iload 4, 2) := dk_21 4 (dk_at dksX1_behindNext_0 10 rfl rfl)
theorem dX1_behindNext_12 : decode cX1_behindNext 12 = .ok (.aload_n 0, 1) := dk_42 (dk_at dksX1_behindNext_0 12 rfl rfl)
theorem dX1_behindNext_13 : decode cX1_behindNext 13 = .ok (.getfield 270, 3) := dk_180 1 14 (dk_at dksX1_behindNext_0 13 rfl rfl)
theorem dX1_behindNext_16 : decode cX1_behindNext 16 = .ok (.if_icmp .ge 58, 3) := dk_162 0 58 (dk_at dksX1_behindNext_0 16 rfl rfl)
theorem dX1_behindNext_19 : decode cX1_behindNext 19 = .ok (.iload_n 3, 1) := dk_29 (dk_at dksX1_behindNext_0 19 rfl rfl)
theorem dX1_behindNext_20 : decode cX1_behindNext 20 = .ok (.ifCond .eq 54, 3) := dk_153 0 54 (dk_at dksX1_behindNext_0 20 rfl rfl)
theorem dX1_behindNext_23 : decode cX1_behindNext 23 = .ok (.aload_n 0, 1) := dk_42 (dk_at dksX1_behindNext_0 23 rfl rfl)
theorem dX1_behindNext_24 : decode cX1_behindNext 24 = .ok (.aload_n 0, 1) := dk_42 (dk_at dksX1_behindNext_1 0 rfl rfl)
theorem dX1_behindNext_25 : decode cX1_behindNext 25 = .ok (.getfield 85, 3) := dk_180 0 85 (dk_at dksX1_behindNext_1 1 rfl rfl)
theorem dX1_behindNext_28 : decode cX1_behindNext 28 = .ok (.iload 4, 2) := dk_21 4 (dk_at dksX1_behindNext_1 4 rfl rfl)
theorem dX1_behindNext_30 : decode cX1_behindNext 30 = .ok (.iaload, 1) := dk_46 (dk_at dksX1_behindNext_1 6 rfl rfl)
theorem dX1_behindNext_31 : decode cX1_behindNext 31 = .ok (.aload_n 0, 1) := dk_42 (dk_at dksX1_behindNext_1 7 rfl rfl)
theorem dX1_behindNext_32 : decode cX1_behindNext 32 = .ok (.getfield 91, 3) := dk_180 0 91 (dk_at dksX1_behindNext_1 8 rfl rfl)
theorem dX1_behindNext_35 : decode cX1_behindNext 35 = .ok (.iload 4, 2) := dk_21 4 (dk_at dksX1_behindNext_1 11 rfl rfl)
theorem dX1_behindNext_37 : decode cX1_behindNext 37 = .ok (.iaload, 1) := dk_46 (dk_at dksX1_behindNext_1 13 rfl rfl)
theorem dX1_behindNext_38 : decode cX1_behindNext 38 = .ok (.iload_n 2, 1) := dk_28 (dk_at dksX1_behindNext_1 14 rfl rfl)
theorem dX1_behindNext_39 : decode cX1_behindNext 39 = .ok (.invokevirtual 206, 3) := dk_182 0 206 (dk_at dksX1_behindNext_1 15 rfl rfl)
theorem dX1_behindNext_42 : decode cX1_behindNext 42 = .ok (.istore 5, 2) := dk_54 5 (dk_at dksX1_behindNext_1 18 rfl rfl)
theorem dX1_behindNext_44 : decode cX1_behindNext 44 = .ok (.iload 5, 2) := dk_21 5 (dk_at dksX1_behindNext_1 20 rfl rfl)
theorem dX1_behindNext_46 : decode cX1_behindNext 46 = .ok (.bipush (-9), 2) := dk_16 247 (dk_at dksX1_behindNext_1 22 rfl rfl)
theorem dX1_behindNext_48 : decode cX1_behindNext 48 = .ok (.if_icmp .eq 7, 3) := dk_159 0 7 (dk_at dksX1_behindNext_2 0 rfl rfl)
theorem dX1_behindNext_51 : decode cX1_behindNext 51 = .ok (.iconst 1, 1) := dk_4 (dk_at dksX1_behindNext_2 3 rfl rfl)
theorem dX1_behindNext_52 : decode cX1_behindNext 52 = .ok (.goto 4, 3) := dk_167 0 4 (dk_at dksX1_behindNext_2 4 rfl rfl)
theorem dX1_behindNext_55 : decode cX1_behindNext 55 = .ok (.iconst 0, 1) := dk_3 (dk_at dksX1_behindNext_2 7 rfl rfl)
theorem dX1_behindNext_56 : decode cX1_behindNext 56 = .ok (.istore_n 3, 1) := dk_62 (dk_at dksX1_behindNext_2 8 rfl rfl)
theorem dX1_behindNext_57 : decode cX1_behindNext 57 = .ok (.aload_n 0, 1) := dk_42 (dk_at dksX1_behindNext_2 9 rfl rfl)
theorem dX1_behindNext_58 : decode cX1_behindNext 58 = .ok (.getfield 91, 3) := dk_180 0 91 (dk_at dksX1_behindNext_2 10 rfl rfl)
theorem dX1_behindNext_61 : decode cX1_behindNext 61 = .ok (.iload 4, 2) := dk_21 4 (dk_at dksX1_behindNext_2 13 rfl rfl)
theorem dX1_behindNext_63 : decode cX1_behindNext 63 = .ok (.iload 5, 2) := dk_21 5 (dk_at dksX1_behindNext_2 15 rfl rfl)
theorem dX1_behindNext_65 : decode cX1_behindNext 65 = .ok (.iconst 1, 1) := dk_4 (dk_at dksX1_behindNext_2 17 rfl rfl)
theorem dX1_behindNext_66 : decode cX1_behindNext 66 = .ok (.iadd, 1) := dk_96 (dk_at dksX1_behindNext_2 18 rfl rfl)
theorem dX1_behindNext_67 : decode cX1_behindNext 67 = .ok (.iastore, 1) := dk_79 (dk_at dksX1_behindNext_2 19 rfl rfl)
theorem dX1_behindNext_68 : decode cX1_behindNext 68 = .ok (.iinc 4 1, 3) := dk_132 4 1 (dk_at dksX1_behindNext_2 20 rfl rfl)
theorem dX1_behindNext_71 : decode cX1_behindNext 71 = .ok (.goto (-61), 3) := dk_167 255 195 (dk_at dksX1_behindNext_3 0 rfl rfl)
theorem dX1_behindNext_74 : decode cX1_behindNext 74 = .ok (.iload_n 3, 1) := dk_29 (dk_at dksX1_behindNext_3 3 rfl rfl)
theorem dX1_behindNext_75 : decode cX1_behindNext 75 = .ok (.ifCond .eq 10, 3) := dk_153 0 10 (dk_at dksX1_behindNext_3 4 rfl rfl)
theorem dX1_behindNext_78 : decode cX1_behindNext 78 = .ok (.aload_n 0, 1) := dk_42 (dk_at dksX1_behindNext_3 7 rfl rfl)
theorem dX1_behindNext_79 : decode cX1_behindNext 79 = .ok (.invokevirtual 276, 3) := dk_182 1 20 (dk_at dksX1_behindNext_3 8 rfl rfl)
theorem dX1_behindNext_82 : decode cX1_behindNext 82 = .ok (.goto 4, 3) := dk_167 0 4 (dk_at dksX1_behindNext_3 11 rfl rfl)
theorem dX1_behindNext_85 : decode cX1_behindNext 85 = .ok (.iconst (-1), 1) := dk_2 (dk_at dksX1_behindNext_3 14 rfl rfl)
theorem dX1_behindNext_86 : decode cX1_behindNext 86 = .ok (.ireturn, 1) := dk_172 (dk_at dksX1_behindNext_3 15 rfl rfl)
abbrev cX1_layAt : ByteArray := prog_8_method_84_code
def yX1_layAt : MethodName := ⟨RX1, "layAt", "(I)V"⟩
def dkwX1_layAt_2 : List UInt8 := [108, 61, 132, 3, 255, 167, 255, 212, 177]
abbrev dktX1_layAt_2 : List UInt8 := dkwX1_layAt_2 ++ []
def dkwX1_layAt_1 : List UInt8 := [180, 0, 85, 29, 46, 46, 4, 96, 112, 79, 28, 42, 180, 0, 29, 42, 180, 0, 85, 29, 46, 46, 4, 96]
abbrev dktX1_layAt_1 : List UInt8 := dkwX1_layAt_1 ++ dktX1_layAt_2
def dkwX1_layAt_0 : List UInt8 := [27, 61, 42, 180, 1, 14, 4, 100, 62, 29, 155, 0, 46, 42, 180, 0, 91, 29, 28, 42, 180, 0, 29, 42]
abbrev dktX1_layAt_0 : List UInt8 := dkwX1_layAt_0 ++ dktX1_layAt_1
theorem dksX1_layAt_0 : cX1_layAt.data.toList.drop 0 = dktX1_layAt_0 := by decide +kernel
theorem dksX1_layAt_1 : cX1_layAt.data.toList.drop 24 = dktX1_layAt_1 := dk_seg dksX1_layAt_0 24 rfl rfl
theorem dksX1_layAt_2 : cX1_layAt.data.toList.drop 48 = dktX1_layAt_2 := dk_seg dksX1_layAt_1 24 rfl rfl
theorem dX1_layAt_0 : decode cX1_layAt 0 = .ok (.iload_n 1, 1) := dk_27 (dk_at dksX1_layAt_0 0 rfl rfl)
theorem dX1_layAt_1 : decode cX1_layAt 1 = .ok (.istore_n 2, 1) := dk_61 (dk_at dksX1_layAt_0 1 rfl rfl)
theorem dX1_layAt_2 : decode cX1_layAt 2 = .ok (.aload_n 0, 1) := dk_42 (dk_at dksX1_layAt_0 2 rfl rfl)
theorem dX1_layAt_3 : decode cX1_layAt 3 = .ok (.getfield 270, 3) := dk_180 1 14 (dk_at dksX1_layAt_0 3 rfl rfl)
theorem dX1_layAt_6 : decode cX1_layAt 6 = .ok (.iconst 1, 1) := dk_4 (dk_at dksX1_layAt_0 6 rfl rfl)
theorem dX1_layAt_7 : decode cX1_layAt 7 = .ok (.isub, 1) := dk_100 (dk_at dksX1_layAt_0 7 rfl rfl)
theorem dX1_layAt_8 : decode cX1_layAt 8 = .ok (.istore_n 3, 1) := dk_62 (dk_at dksX1_layAt_0 8 rfl rfl)
theorem dX1_layAt_9 : decode cX1_layAt 9 = .ok (.iload_n 3, 1) := dk_29 (dk_at dksX1_layAt_0 9 rfl rfl)
theorem dX1_layAt_10 : decode cX1_layAt 10 = .ok (.ifCond .lt 46, 3) := dk_155 0 46 (dk_at dksX1_layAt_0 10 rfl rfl)
theorem dX1_layAt_13 : decode cX1_layAt 13 = .ok (.aload_n 0, 1) := dk_42 (dk_at dksX1_layAt_0 13 rfl rfl)
theorem dX1_layAt_14 : decode cX1_layAt 14 = .ok (.getfield 91, 3) := dk_180 0 91 (dk_at dksX1_layAt_0 14 rfl rfl)
theorem dX1_layAt_17 : decode cX1_layAt 17 = .ok (.iload_n 3, 1) := dk_29 (dk_at dksX1_layAt_0 17 rfl rfl)
theorem dX1_layAt_18 : decode cX1_layAt 18 = .ok (.iload_n 2, 1) := dk_28 (dk_at dksX1_layAt_0 18 rfl rfl)
theorem dX1_layAt_19 : decode cX1_layAt 19 = .ok (.aload_n 0, 1) := dk_42 (dk_at dksX1_layAt_0 19 rfl rfl)
theorem dX1_layAt_20 : decode cX1_layAt 20 = .ok (.getfield 29, 3) := dk_180 0 29 (dk_at dksX1_layAt_0 20 rfl rfl)
theorem dX1_layAt_23 : decode cX1_layAt 23 = .ok (.aload_n 0, 1) := dk_42 (dk_at dksX1_layAt_0 23 rfl rfl)
theorem dX1_layAt_24 : decode cX1_layAt 24 = .ok (.getfield 85, 3) := dk_180 0 85 (dk_at dksX1_layAt_1 0 rfl rfl)
theorem dX1_layAt_27 : decode cX1_layAt 27 = .ok (.iload_n 3, 1) := dk_29 (dk_at dksX1_layAt_1 3 rfl rfl)
theorem dX1_layAt_28 : decode cX1_layAt 28 = .ok (.iaload, 1) := dk_46 (dk_at dksX1_layAt_1 4 rfl rfl)
theorem dX1_layAt_29 : decode cX1_layAt 29 = .ok (.iaload, 1) := dk_46 (dk_at dksX1_layAt_1 5 rfl rfl)
theorem dX1_layAt_30 : decode cX1_layAt 30 = .ok (.iconst 1, 1) := dk_4 (dk_at dksX1_layAt_1 6 rfl rfl)
theorem dX1_layAt_31 : decode cX1_layAt 31 = .ok (.iadd, 1) := dk_96 (dk_at dksX1_layAt_1 7 rfl rfl)
theorem dX1_layAt_32 : decode cX1_layAt 32 = .ok (.irem, 1) := dk_112 (dk_at dksX1_layAt_1 8 rfl rfl)
theorem dX1_layAt_33 : decode cX1_layAt 33 = .ok (.iastore, 1) := dk_79 (dk_at dksX1_layAt_1 9 rfl rfl)
theorem dX1_layAt_34 : decode cX1_layAt 34 = .ok (.iload_n 2, 1) := dk_28 (dk_at dksX1_layAt_1 10 rfl rfl)
theorem dX1_layAt_35 : decode cX1_layAt 35 = .ok (.aload_n 0, 1) := dk_42 (dk_at dksX1_layAt_1 11 rfl rfl)
theorem dX1_layAt_36 : decode cX1_layAt 36 = .ok (.getfield 29, 3) := dk_180 0 29 (dk_at dksX1_layAt_1 12 rfl rfl)
theorem dX1_layAt_39 : decode cX1_layAt 39 = .ok (.aload_n 0, 1) := dk_42 (dk_at dksX1_layAt_1 15 rfl rfl)
theorem dX1_layAt_40 : decode cX1_layAt 40 = .ok (.getfield 85, 3) := dk_180 0 85 (dk_at dksX1_layAt_1 16 rfl rfl)
theorem dX1_layAt_43 : decode cX1_layAt 43 = .ok (.iload_n 3, 1) := dk_29 (dk_at dksX1_layAt_1 19 rfl rfl)
theorem dX1_layAt_44 : decode cX1_layAt 44 = .ok (.iaload, 1) := dk_46 (dk_at dksX1_layAt_1 20 rfl rfl)
theorem dX1_layAt_45 : decode cX1_layAt 45 = .ok (.iaload, 1) := dk_46 (dk_at dksX1_layAt_1 21 rfl rfl)
theorem dX1_layAt_46 : decode cX1_layAt 46 = .ok (.iconst 1, 1) := dk_4 (dk_at dksX1_layAt_1 22 rfl rfl)
theorem dX1_layAt_47 : decode cX1_layAt 47 = .ok (.iadd, 1) := dk_96 (dk_at dksX1_layAt_1 23 rfl rfl)
theorem dX1_layAt_48 : decode cX1_layAt 48 = .ok (.idiv, 1) := dk_108 (dk_at dksX1_layAt_2 0 rfl rfl)
theorem dX1_layAt_49 : decode cX1_layAt 49 = .ok (.istore_n 2, 1) := dk_61 (dk_at dksX1_layAt_2 1 rfl rfl)
theorem dX1_layAt_50 : decode cX1_layAt 50 = .ok (.iinc 3 (-1), 3) := dk_132 3 255 (dk_at dksX1_layAt_2 2 rfl rfl)
theorem dX1_layAt_53 : decode cX1_layAt 53 = .ok (.goto (-44), 3) := dk_167 255 212 (dk_at dksX1_layAt_2 5 rfl rfl)
theorem dX1_layAt_56 : decode cX1_layAt 56 = .ok (.return_, 1) := dk_177 (dk_at dksX1_layAt_2 8 rfl rfl)
abbrev cX1_code : ByteArray := prog_8_method_82_code
def yX1_code : MethodName := ⟨RX1, "code", "()I"⟩
def dkwX1_code_1 : List UInt8 := [4, 96, 104, 42, 180, 0, 91, 28, 46, 96, 60, 132, 2, 1, 167, 255, 222, 27, 172]
abbrev dktX1_code_1 : List UInt8 := dkwX1_code_1 ++ []
def dkwX1_code_0 : List UInt8 := [3, 60, 3, 61, 28, 42, 180, 1, 14, 162, 0, 32, 27, 42, 180, 0, 29, 42, 180, 0, 85, 28, 46, 46]
abbrev dktX1_code_0 : List UInt8 := dkwX1_code_0 ++ dktX1_code_1
theorem dksX1_code_0 : cX1_code.data.toList.drop 0 = dktX1_code_0 := by decide +kernel
theorem dksX1_code_1 : cX1_code.data.toList.drop 24 = dktX1_code_1 := dk_seg dksX1_code_0 24 rfl rfl
theorem dX1_code_0 : decode cX1_code 0 = .ok (.iconst 0, 1) := dk_3 (dk_at dksX1_code_0 0 rfl rfl)
theorem dX1_code_1 : decode cX1_code 1 = .ok (.istore_n 1, 1) := dk_60 (dk_at dksX1_code_0 1 rfl rfl)
theorem dX1_code_2 : decode cX1_code 2 = .ok (.iconst 0, 1) := dk_3 (dk_at dksX1_code_0 2 rfl rfl)
theorem dX1_code_3 : decode cX1_code 3 = .ok (.istore_n 2, 1) := dk_61 (dk_at dksX1_code_0 3 rfl rfl)
theorem dX1_code_4 : decode cX1_code 4 = .ok (.iload_n 2, 1) := dk_28 (dk_at dksX1_code_0 4 rfl rfl)
theorem dX1_code_5 : decode cX1_code 5 = .ok (.aload_n 0, 1) := dk_42 (dk_at dksX1_code_0 5 rfl rfl)
theorem dX1_code_6 : decode cX1_code 6 = .ok (.getfield 270, 3) := dk_180 1 14 (dk_at dksX1_code_0 6 rfl rfl)
theorem dX1_code_9 : decode cX1_code 9 = .ok (.if_icmp .ge 32, 3) := dk_162 0 32 (dk_at dksX1_code_0 9 rfl rfl)
theorem dX1_code_12 : decode cX1_code 12 = .ok (.iload_n 1, 1) := dk_27 (dk_at dksX1_code_0 12 rfl rfl)
theorem dX1_code_13 : decode cX1_code 13 = .ok (.aload_n 0, 1) := dk_42 (dk_at dksX1_code_0 13 rfl rfl)
theorem dX1_code_14 : decode cX1_code 14 = .ok (.getfield 29, 3) := dk_180 0 29 (dk_at dksX1_code_0 14 rfl rfl)
theorem dX1_code_17 : decode cX1_code 17 = .ok (.aload_n 0, 1) := dk_42 (dk_at dksX1_code_0 17 rfl rfl)
theorem dX1_code_18 : decode cX1_code 18 = .ok (.getfield 85, 3) := dk_180 0 85 (dk_at dksX1_code_0 18 rfl rfl)
theorem dX1_code_21 : decode cX1_code 21 = .ok (.iload_n 2, 1) := dk_28 (dk_at dksX1_code_0 21 rfl rfl)
theorem dX1_code_22 : decode cX1_code 22 = .ok (.iaload, 1) := dk_46 (dk_at dksX1_code_0 22 rfl rfl)
theorem dX1_code_23 : decode cX1_code 23 = .ok (.iaload, 1) := dk_46 (dk_at dksX1_code_0 23 rfl rfl)
theorem dX1_code_24 : decode cX1_code 24 = .ok (.iconst 1, 1) := dk_4 (dk_at dksX1_code_1 0 rfl rfl)
theorem dX1_code_25 : decode cX1_code 25 = .ok (.iadd, 1) := dk_96 (dk_at dksX1_code_1 1 rfl rfl)
theorem dX1_code_26 : decode cX1_code 26 = .ok (.imul, 1) := dk_104 (dk_at dksX1_code_1 2 rfl rfl)
theorem dX1_code_27 : decode cX1_code 27 = .ok (.aload_n 0, 1) := dk_42 (dk_at dksX1_code_1 3 rfl rfl)
theorem dX1_code_28 : decode cX1_code 28 = .ok (.getfield 91, 3) := dk_180 0 91 (dk_at dksX1_code_1 4 rfl rfl)
theorem dX1_code_31 : decode cX1_code 31 = .ok (.iload_n 2, 1) := dk_28 (dk_at dksX1_code_1 7 rfl rfl)
theorem dX1_code_32 : decode cX1_code 32 = .ok (.iaload, 1) := dk_46 (dk_at dksX1_code_1 8 rfl rfl)
theorem dX1_code_33 : decode cX1_code 33 = .ok (.iadd, 1) := dk_96 (dk_at dksX1_code_1 9 rfl rfl)
theorem dX1_code_34 : decode cX1_code 34 = .ok (.istore_n 1, 1) := dk_60 (dk_at dksX1_code_1 10 rfl rfl)
theorem dX1_code_35 : decode cX1_code 35 = .ok (.iinc 2 1, 3) := dk_132 2 1 (dk_at dksX1_code_1 11 rfl rfl)
theorem dX1_code_38 : decode cX1_code 38 = .ok (.goto (-34), 3) := dk_167 255 222 (dk_at dksX1_code_1 14 rfl rfl)
theorem dX1_code_41 : decode cX1_code 41 = .ok (.iload_n 1, 1) := dk_27 (dk_at dksX1_code_1 17 rfl rfl)
theorem dX1_code_42 : decode cX1_code 42 = .ok (.ireturn, 1) := dk_172 (dk_at dksX1_code_1 18 rfl rfl)
abbrev cX1_cover : ByteArray := prog_8_method_88_code
def yX1_cover : MethodName := ⟨RX1, "cover", "(II)I"⟩
def dkwX1_cover_11 : List UInt8 := [21, 5, 172]
abbrev dktX1_cover_11 : List UInt8 := dkwX1_cover_11 ++ []
def dkwX1_cover_10 : List UInt8 := [42, 21, 5, 16, 40, 164, 0, 8, 16, 40, 167, 0, 5, 21, 5, 181, 0, 151, 42, 28, 182, 0, 214]
abbrev dktX1_cover_10 : List UInt8 := dkwX1_cover_10 ++ dktX1_cover_11
def dkwX1_cover_9 : List UInt8 := [16, 40, 162, 0, 12, 42, 180, 0, 44, 21, 7, 21, 8, 79, 21, 9, 54, 6, 132, 7, 1, 167, 255, 173]
abbrev dktX1_cover_9 : List UInt8 := dkwX1_cover_9 ++ dktX1_cover_10
def dkwX1_cover_8 : List UInt8 := [21, 6, 46, 164, 0, 19, 132, 8, 1, 42, 21, 6, 21, 8, 182, 1, 33, 54, 9, 167, 255, 219, 21, 7]
abbrev dktX1_cover_8 : List UInt8 := dkwX1_cover_8 ++ dktX1_cover_9
def dkwX1_cover_7 : List UInt8 := [182, 1, 33, 54, 9, 21, 9, 155, 0, 22, 42, 180, 0, 88, 21, 9, 46, 4, 96, 42, 180, 0, 88]
abbrev dktX1_cover_7 : List UInt8 := dkwX1_cover_7 ++ dktX1_cover_8
def dkwX1_cover_6 : List UInt8 := [46, 54, 5, 3, 54, 6, 3, 54, 7, 21, 7, 21, 5, 162, 0, 82, 3, 54, 8, 42, 21, 6, 21, 8]
abbrev dktX1_cover_6 : List UInt8 := dkwX1_cover_6 ++ dktX1_cover_7
def dkwX1_cover_5 : List UInt8 := [180, 0, 88, 21, 5, 46, 79, 132, 6, 1, 167, 255, 184, 132, 5, 255, 167, 255, 149, 42, 180, 0, 88, 3]
abbrev dktX1_cover_5 : List UInt8 := dkwX1_cover_5 ++ dktX1_cover_6
def dkwX1_cover_4 : List UInt8 := [180, 0, 88, 21, 5, 46, 162, 0, 15, 42, 180, 0, 88, 21, 7, 46, 4, 96, 167, 0, 10, 42]
abbrev dktX1_cover_4 : List UInt8 := dkwX1_cover_4 ++ dktX1_cover_5
def dkwX1_cover_3 : List UInt8 := [54, 7, 42, 180, 0, 88, 21, 5, 21, 7, 155, 0, 34, 42, 180, 0, 88, 21, 7, 46, 4, 96, 42]
abbrev dktX1_cover_3 : List UInt8 := dkwX1_cover_3 ++ dktX1_cover_4
def dkwX1_cover_2 : List UInt8 := [17, 3, 232, 79, 3, 54, 6, 21, 6, 42, 180, 0, 110, 162, 0, 69, 42, 21, 5, 21, 6, 182, 1, 33]
abbrev dktX1_cover_2 : List UInt8 := dkwX1_cover_2 ++ dktX1_cover_3
def dkwX1_cover_1 : List UInt8 := [54, 5, 21, 5, 155, 0, 108, 42, 180, 0, 88, 21, 5, 21, 5, 21, 4, 160, 0, 7, 3, 167, 0, 6]
abbrev dktX1_cover_1 : List UInt8 := dkwX1_cover_1 ++ dktX1_cover_2
def dkwX1_cover_0 : List UInt8 := [42, 27, 28, 182, 1, 24, 62, 29, 156, 0, 5, 29, 172, 42, 182, 1, 27, 4, 100, 54, 4, 21, 4]
abbrev dktX1_cover_0 : List UInt8 := dkwX1_cover_0 ++ dktX1_cover_1
theorem dksX1_cover_0 : cX1_cover.data.toList.drop 0 = dktX1_cover_0 := by decide +kernel
theorem dksX1_cover_1 : cX1_cover.data.toList.drop 23 = dktX1_cover_1 := dk_seg dksX1_cover_0 23 rfl rfl
theorem dksX1_cover_2 : cX1_cover.data.toList.drop 47 = dktX1_cover_2 := dk_seg dksX1_cover_1 24 rfl rfl
theorem dksX1_cover_3 : cX1_cover.data.toList.drop 71 = dktX1_cover_3 := dk_seg dksX1_cover_2 24 rfl rfl
theorem dksX1_cover_4 : cX1_cover.data.toList.drop 94 = dktX1_cover_4 := dk_seg dksX1_cover_3 23 rfl rfl
theorem dksX1_cover_5 : cX1_cover.data.toList.drop 116 = dktX1_cover_5 := dk_seg dksX1_cover_4 22 rfl rfl
theorem dksX1_cover_6 : cX1_cover.data.toList.drop 140 = dktX1_cover_6 := dk_seg dksX1_cover_5 24 rfl rfl
theorem dksX1_cover_7 : cX1_cover.data.toList.drop 164 = dktX1_cover_7 := dk_seg dksX1_cover_6 24 rfl rfl
theorem dksX1_cover_8 : cX1_cover.data.toList.drop 187 = dktX1_cover_8 := dk_seg dksX1_cover_7 23 rfl rfl
theorem dksX1_cover_9 : cX1_cover.data.toList.drop 211 = dktX1_cover_9 := dk_seg dksX1_cover_8 24 rfl rfl
theorem dksX1_cover_10 : cX1_cover.data.toList.drop 235 = dktX1_cover_10 := dk_seg dksX1_cover_9 24 rfl rfl
theorem dksX1_cover_11 : cX1_cover.data.toList.drop 258 = dktX1_cover_11 := dk_seg dksX1_cover_10 23 rfl rfl
theorem dX1_cover_0 : decode cX1_cover 0 = .ok (.aload_n 0, 1) := dk_42 (dk_at dksX1_cover_0 0 rfl rfl)
theorem dX1_cover_1 : decode cX1_cover 1 = .ok (.iload_n 1, 1) := dk_27 (dk_at dksX1_cover_0 1 rfl rfl)
theorem dX1_cover_2 : decode cX1_cover 2 = .ok (.iload_n 2, 1) := dk_28 (dk_at dksX1_cover_0 2 rfl rfl)
theorem dX1_cover_3 : decode cX1_cover 3 = .ok (.invokevirtual 280, 3) := dk_182 1 24 (dk_at dksX1_cover_0 3 rfl rfl)
theorem dX1_cover_6 : decode cX1_cover 6 = .ok (.istore_n 3, 1) := dk_62 (dk_at dksX1_cover_0 6 rfl rfl)
theorem dX1_cover_7 : decode cX1_cover 7 = .ok (.iload_n 3, 1) := dk_29 (dk_at dksX1_cover_0 7 rfl rfl)
theorem dX1_cover_8 : decode cX1_cover 8 = .ok (.ifCond .ge 5, 3) := dk_156 0 5 (dk_at dksX1_cover_0 8 rfl rfl)
theorem dX1_cover_11 : decode cX1_cover 11 = .ok (.iload_n 3, 1) := dk_29 (dk_at dksX1_cover_0 11 rfl rfl)
theorem dX1_cover_12 : decode cX1_cover 12 = .ok (.ireturn, 1) := dk_172 (dk_at dksX1_cover_0 12 rfl rfl)
theorem dX1_cover_13 : decode cX1_cover 13 = .ok (.aload_n 0, 1) := dk_42 (dk_at dksX1_cover_0 13 rfl rfl)
theorem dX1_cover_14 : decode cX1_cover 14 = .ok (.invokevirtual 283, 3) := dk_182 1 27 (dk_at dksX1_cover_0 14 rfl rfl)
theorem dX1_cover_17 : decode cX1_cover 17 = .ok (.iconst 1, 1) := dk_4 (dk_at dksX1_cover_0 17 rfl rfl)
theorem dX1_cover_18 : decode cX1_cover 18 = .ok (.isub, 1) := dk_100 (dk_at dksX1_cover_0 18 rfl rfl)
theorem dX1_cover_19 : decode cX1_cover 19 = .ok (.istore 4, 2) := dk_54 4 (dk_at dksX1_cover_0 19 rfl rfl)
theorem dX1_cover_21 : decode cX1_cover 21 = .ok (.iload 4, 2) := dk_21 4 (dk_at dksX1_cover_0 21 rfl rfl)
theorem dX1_cover_23 : decode cX1_cover 23 = .ok (.istore 5, 2) := dk_54 5 (dk_at dksX1_cover_1 0 rfl rfl)
theorem dX1_cover_25 : decode cX1_cover 25 = .ok (.iload 5, 2) := dk_21 5 (dk_at dksX1_cover_1 2 rfl rfl)
theorem dX1_cover_27 : decode cX1_cover 27 = .ok (.ifCond .lt 108, 3) := dk_155 0 108 (dk_at dksX1_cover_1 4 rfl rfl)
theorem dX1_cover_30 : decode cX1_cover 30 = .ok (.aload_n 0, 1) := dk_42 (dk_at dksX1_cover_1 7 rfl rfl)
theorem dX1_cover_31 : decode cX1_cover 31 = .ok (.getfield 88, 3) := dk_180 0 88 (dk_at dksX1_cover_1 8 rfl rfl)
theorem dX1_cover_34 : decode cX1_cover 34 = .ok (.iload 5, 2) := dk_21 5 (dk_at dksX1_cover_1 11 rfl rfl)
theorem dX1_cover_36 : decode cX1_cover 36 = .ok (.iload 5, 2) := dk_21 5 (dk_at dksX1_cover_1 13 rfl rfl)
theorem dX1_cover_38 : decode cX1_cover 38 = .ok (.iload 4, 2) := dk_21 4 (dk_at dksX1_cover_1 15 rfl rfl)
theorem dX1_cover_40 : decode cX1_cover 40 = .ok (.if_icmp .ne 7, 3) := dk_160 0 7 (dk_at dksX1_cover_1 17 rfl rfl)
theorem dX1_cover_43 : decode cX1_cover 43 = .ok (.iconst 0, 1) := dk_3 (dk_at dksX1_cover_1 20 rfl rfl)
theorem dX1_cover_44 : decode cX1_cover 44 = .ok (.goto 6, 3) := dk_167 0 6 (dk_at dksX1_cover_1 21 rfl rfl)
theorem dX1_cover_47 : decode cX1_cover 47 = .ok (.sipush 1000, 3) := dk_17 3 232 (dk_at dksX1_cover_2 0 rfl rfl)
theorem dX1_cover_50 : decode cX1_cover 50 = .ok (.iastore, 1) := dk_79 (dk_at dksX1_cover_2 3 rfl rfl)
theorem dX1_cover_51 : decode cX1_cover 51 = .ok (.iconst 0, 1) := dk_3 (dk_at dksX1_cover_2 4 rfl rfl)
theorem dX1_cover_52 : decode cX1_cover 52 = .ok (.istore 6, 2) := dk_54 6 (dk_at dksX1_cover_2 5 rfl rfl)
theorem dX1_cover_54 : decode cX1_cover 54 = .ok (.iload 6, 2) := dk_21 6 (dk_at dksX1_cover_2 7 rfl rfl)
theorem dX1_cover_56 : decode cX1_cover 56 = .ok (.aload_n 0, 1) := dk_42 (dk_at dksX1_cover_2 9 rfl rfl)
theorem dX1_cover_57 : decode cX1_cover 57 = .ok (.getfield 110, 3) := dk_180 0 110 (dk_at dksX1_cover_2 10 rfl rfl)
theorem dX1_cover_60 : decode cX1_cover 60 = .ok (.if_icmp .ge 69, 3) := dk_162 0 69 (dk_at dksX1_cover_2 13 rfl rfl)
theorem dX1_cover_63 : decode cX1_cover 63 = .ok (.aload_n 0, 1) := dk_42 (dk_at dksX1_cover_2 16 rfl rfl)
theorem dX1_cover_64 : decode cX1_cover 64 = .ok (.iload 5, 2) := dk_21 5 (dk_at dksX1_cover_2 17 rfl rfl)
theorem dX1_cover_66 : decode cX1_cover 66 = .ok (.iload 6, 2) := dk_21 6 (dk_at dksX1_cover_2 19 rfl rfl)
theorem dX1_cover_68 : decode cX1_cover 68 = .ok (.invokevirtual 289, 3) := dk_182 1 33 (dk_at dksX1_cover_2 21 rfl rfl)
theorem dX1_cover_71 : decode cX1_cover 71 = .ok (.istore 7, 2) := dk_54 7 (dk_at dksX1_cover_3 0 rfl rfl)
theorem dX1_cover_73 : decode cX1_cover 73 = .ok (.aload_n 0, 1) := dk_42 (dk_at dksX1_cover_3 2 rfl rfl)
theorem dX1_cover_74 : decode cX1_cover 74 = .ok (.getfield 88, 3) := dk_180 0 88 (dk_at dksX1_cover_3 3 rfl rfl)
theorem dX1_cover_77 : decode cX1_cover 77 = .ok (.iload 5, 2) := dk_21 5 (dk_at dksX1_cover_3 6 rfl rfl)
theorem dX1_cover_79 : decode cX1_cover 79 = .ok (.iload 7, 2) := dk_21 7 (dk_at dksX1_cover_3 8 rfl rfl)
theorem dX1_cover_81 : decode cX1_cover 81 = .ok (.ifCond .lt 34, 3) := dk_155 0 34 (dk_at dksX1_cover_3 10 rfl rfl)
theorem dX1_cover_84 : decode cX1_cover 84 = .ok (.aload_n 0, 1) := dk_42 (dk_at dksX1_cover_3 13 rfl rfl)
theorem dX1_cover_85 : decode cX1_cover 85 = .ok (.getfield 88, 3) := dk_180 0 88 (dk_at dksX1_cover_3 14 rfl rfl)
theorem dX1_cover_88 : decode cX1_cover 88 = .ok (.iload 7, 2) := dk_21 7 (dk_at dksX1_cover_3 17 rfl rfl)
theorem dX1_cover_90 : decode cX1_cover 90 = .ok (.iaload, 1) := dk_46 (dk_at dksX1_cover_3 19 rfl rfl)
theorem dX1_cover_91 : decode cX1_cover 91 = .ok (.iconst 1, 1) := dk_4 (dk_at dksX1_cover_3 20 rfl rfl)
theorem dX1_cover_92 : decode cX1_cover 92 = .ok (.iadd, 1) := dk_96 (dk_at dksX1_cover_3 21 rfl rfl)
theorem dX1_cover_93 : decode cX1_cover 93 = .ok (.aload_n 0, 1) := dk_42 (dk_at dksX1_cover_3 22 rfl rfl)
theorem dX1_cover_94 : decode cX1_cover 94 = .ok (.getfield 88, 3) := dk_180 0 88 (dk_at dksX1_cover_4 0 rfl rfl)
theorem dX1_cover_97 : decode cX1_cover 97 = .ok (.iload 5, 2) := dk_21 5 (dk_at dksX1_cover_4 3 rfl rfl)
theorem dX1_cover_99 : decode cX1_cover 99 = .ok (.iaload, 1) := dk_46 (dk_at dksX1_cover_4 5 rfl rfl)
theorem dX1_cover_100 : decode cX1_cover 100 = .ok (.if_icmp .ge 15, 3) := dk_162 0 15 (dk_at dksX1_cover_4 6 rfl rfl)
theorem dX1_cover_103 : decode cX1_cover 103 = .ok (.aload_n 0, 1) := dk_42 (dk_at dksX1_cover_4 9 rfl rfl)
theorem dX1_cover_104 : decode cX1_cover 104 = .ok (.getfield 88, 3) := dk_180 0 88 (dk_at dksX1_cover_4 10 rfl rfl)
theorem dX1_cover_107 : decode cX1_cover 107 = .ok (.iload 7, 2) := dk_21 7 (dk_at dksX1_cover_4 13 rfl rfl)
theorem dX1_cover_109 : decode cX1_cover 109 = .ok (.iaload, 1) := dk_46 (dk_at dksX1_cover_4 15 rfl rfl)
theorem dX1_cover_110 : decode cX1_cover 110 = .ok (.iconst 1, 1) := dk_4 (dk_at dksX1_cover_4 16 rfl rfl)
theorem dX1_cover_111 : decode cX1_cover 111 = .ok (.iadd, 1) := dk_96 (dk_at dksX1_cover_4 17 rfl rfl)
theorem dX1_cover_112 : decode cX1_cover 112 = .ok (.goto 10, 3) := dk_167 0 10 (dk_at dksX1_cover_4 18 rfl rfl)
theorem dX1_cover_115 : decode cX1_cover 115 = .ok (.aload_n 0, 1) := dk_42 (dk_at dksX1_cover_4 21 rfl rfl)
theorem dX1_cover_116 : decode cX1_cover 116 = .ok (.getfield 88, 3) := dk_180 0 88 (dk_at dksX1_cover_5 0 rfl rfl)
theorem dX1_cover_119 : decode cX1_cover 119 = .ok (.iload 5, 2) := dk_21 5 (dk_at dksX1_cover_5 3 rfl rfl)
theorem dX1_cover_121 : decode cX1_cover 121 = .ok (.iaload, 1) := dk_46 (dk_at dksX1_cover_5 5 rfl rfl)
theorem dX1_cover_122 : decode cX1_cover 122 = .ok (.iastore, 1) := dk_79 (dk_at dksX1_cover_5 6 rfl rfl)
theorem dX1_cover_123 : decode cX1_cover 123 = .ok (.iinc 6 1, 3) := dk_132 6 1 (dk_at dksX1_cover_5 7 rfl rfl)
theorem dX1_cover_126 : decode cX1_cover 126 = .ok (.goto (-72), 3) := dk_167 255 184 (dk_at dksX1_cover_5 10 rfl rfl)
theorem dX1_cover_129 : decode cX1_cover 129 = .ok (.iinc 5 (-1), 3) := dk_132 5 255 (dk_at dksX1_cover_5 13 rfl rfl)
theorem dX1_cover_132 : decode cX1_cover 132 = .ok (.goto (-107), 3) := dk_167 255 149 (dk_at dksX1_cover_5 16 rfl rfl)
theorem dX1_cover_135 : decode cX1_cover 135 = .ok (.aload_n 0, 1) := dk_42 (dk_at dksX1_cover_5 19 rfl rfl)
theorem dX1_cover_136 : decode cX1_cover 136 = .ok (.getfield 88, 3) := dk_180 0 88 (dk_at dksX1_cover_5 20 rfl rfl)
theorem dX1_cover_139 : decode cX1_cover 139 = .ok (.iconst 0, 1) := dk_3 (dk_at dksX1_cover_5 23 rfl rfl)
theorem dX1_cover_140 : decode cX1_cover 140 = .ok (.iaload, 1) := dk_46 (dk_at dksX1_cover_6 0 rfl rfl)
theorem dX1_cover_141 : decode cX1_cover 141 = .ok (.istore 5, 2) := dk_54 5 (dk_at dksX1_cover_6 1 rfl rfl)
theorem dX1_cover_143 : decode cX1_cover 143 = .ok (.iconst 0, 1) := dk_3 (dk_at dksX1_cover_6 3 rfl rfl)
theorem dX1_cover_144 : decode cX1_cover 144 = .ok (.istore 6, 2) := dk_54 6 (dk_at dksX1_cover_6 4 rfl rfl)
theorem dX1_cover_146 : decode cX1_cover 146 = .ok (.iconst 0, 1) := dk_3 (dk_at dksX1_cover_6 6 rfl rfl)
theorem dX1_cover_147 : decode cX1_cover 147 = .ok (.istore 7, 2) := dk_54 7 (dk_at dksX1_cover_6 7 rfl rfl)
theorem dX1_cover_149 : decode cX1_cover 149 = .ok (.iload 7, 2) := dk_21 7 (dk_at dksX1_cover_6 9 rfl rfl)
theorem dX1_cover_151 : decode cX1_cover 151 = .ok (.iload 5, 2) := dk_21 5 (dk_at dksX1_cover_6 11 rfl rfl)
theorem dX1_cover_153 : decode cX1_cover 153 = .ok (.if_icmp .ge 82, 3) := dk_162 0 82 (dk_at dksX1_cover_6 13 rfl rfl)
theorem dX1_cover_156 : decode cX1_cover 156 = .ok (.iconst 0, 1) := dk_3 (dk_at dksX1_cover_6 16 rfl rfl)
theorem dX1_cover_157 : decode cX1_cover 157 = .ok (.istore 8, 2) := dk_54 8 (dk_at dksX1_cover_6 17 rfl rfl)
theorem dX1_cover_159 : decode cX1_cover 159 = .ok (.aload_n 0, 1) := dk_42 (dk_at dksX1_cover_6 19 rfl rfl)
theorem dX1_cover_160 : decode cX1_cover 160 = .ok (.iload 6, 2) := dk_21 6 (dk_at dksX1_cover_6 20 rfl rfl)
theorem dX1_cover_162 : decode cX1_cover 162 = .ok (.iload 8, 2) := dk_21 8 (dk_at dksX1_cover_6 22 rfl rfl)
theorem dX1_cover_164 : decode cX1_cover 164 = .ok (.invokevirtual 289, 3) := dk_182 1 33 (dk_at dksX1_cover_7 0 rfl rfl)
theorem dX1_cover_167 : decode cX1_cover 167 = .ok (.istore 9, 2) := dk_54 9 (dk_at dksX1_cover_7 3 rfl rfl)
theorem dX1_cover_169 : decode cX1_cover 169 = .ok (.iload 9, 2) := dk_21 9 (dk_at dksX1_cover_7 5 rfl rfl)
theorem dX1_cover_171 : decode cX1_cover 171 = .ok (.ifCond .lt 22, 3) := dk_155 0 22 (dk_at dksX1_cover_7 7 rfl rfl)
theorem dX1_cover_174 : decode cX1_cover 174 = .ok (.aload_n 0, 1) := dk_42 (dk_at dksX1_cover_7 10 rfl rfl)
theorem dX1_cover_175 : decode cX1_cover 175 = .ok (.getfield 88, 3) := dk_180 0 88 (dk_at dksX1_cover_7 11 rfl rfl)
theorem dX1_cover_178 : decode cX1_cover 178 = .ok (.iload 9, 2) := dk_21 9 (dk_at dksX1_cover_7 14 rfl rfl)
theorem dX1_cover_180 : decode cX1_cover 180 = .ok (.iaload, 1) := dk_46 (dk_at dksX1_cover_7 16 rfl rfl)
theorem dX1_cover_181 : decode cX1_cover 181 = .ok (.iconst 1, 1) := dk_4 (dk_at dksX1_cover_7 17 rfl rfl)
theorem dX1_cover_182 : decode cX1_cover 182 = .ok (.iadd, 1) := dk_96 (dk_at dksX1_cover_7 18 rfl rfl)
theorem dX1_cover_183 : decode cX1_cover 183 = .ok (.aload_n 0, 1) := dk_42 (dk_at dksX1_cover_7 19 rfl rfl)
theorem dX1_cover_184 : decode cX1_cover 184 = .ok (.getfield 88, 3) := dk_180 0 88 (dk_at dksX1_cover_7 20 rfl rfl)
theorem dX1_cover_187 : decode cX1_cover 187 = .ok (.iload 6, 2) := dk_21 6 (dk_at dksX1_cover_8 0 rfl rfl)
theorem dX1_cover_189 : decode cX1_cover 189 = .ok (.iaload, 1) := dk_46 (dk_at dksX1_cover_8 2 rfl rfl)
theorem dX1_cover_190 : decode cX1_cover 190 = .ok (.if_icmp .le 19, 3) := dk_164 0 19 (dk_at dksX1_cover_8 3 rfl rfl)
theorem dX1_cover_193 : decode cX1_cover 193 = .ok (.iinc 8 1, 3) := dk_132 8 1 (dk_at dksX1_cover_8 6 rfl rfl)
theorem dX1_cover_196 : decode cX1_cover 196 = .ok (.aload_n 0, 1) := dk_42 (dk_at dksX1_cover_8 9 rfl rfl)
theorem dX1_cover_197 : decode cX1_cover 197 = .ok (.iload 6, 2) := dk_21 6 (dk_at dksX1_cover_8 10 rfl rfl)
theorem dX1_cover_199 : decode cX1_cover 199 = .ok (.iload 8, 2) := dk_21 8 (dk_at dksX1_cover_8 12 rfl rfl)
theorem dX1_cover_201 : decode cX1_cover 201 = .ok (.invokevirtual 289, 3) := dk_182 1 33 (dk_at dksX1_cover_8 14 rfl rfl)
theorem dX1_cover_204 : decode cX1_cover 204 = .ok (.istore 9, 2) := dk_54 9 (dk_at dksX1_cover_8 17 rfl rfl)
theorem dX1_cover_206 : decode cX1_cover 206 = .ok (.goto (-37), 3) := dk_167 255 219 (dk_at dksX1_cover_8 19 rfl rfl)
theorem dX1_cover_209 : decode cX1_cover 209 = .ok (.iload 7, 2) := dk_21 7 (dk_at dksX1_cover_8 22 rfl rfl)
theorem dX1_cover_211 : decode cX1_cover 211 = .ok (.bipush 40, 2) := dk_16 40 (dk_at dksX1_cover_9 0 rfl rfl)
theorem dX1_cover_213 : decode cX1_cover 213 = .ok (.if_icmp .ge 12, 3) := dk_162 0 12 (dk_at dksX1_cover_9 2 rfl rfl)
theorem dX1_cover_216 : decode cX1_cover 216 = .ok (.aload_n 0, 1) := dk_42 (dk_at dksX1_cover_9 5 rfl rfl)
theorem dX1_cover_217 : decode cX1_cover 217 = .ok (.getfield 44, 3) := dk_180 0 44 (dk_at dksX1_cover_9 6 rfl rfl)
theorem dX1_cover_220 : decode cX1_cover 220 = .ok (.iload 7, 2) := dk_21 7 (dk_at dksX1_cover_9 9 rfl rfl)
theorem dX1_cover_222 : decode cX1_cover 222 = .ok (.iload 8, 2) := dk_21 8 (dk_at dksX1_cover_9 11 rfl rfl)
theorem dX1_cover_224 : decode cX1_cover 224 = .ok (.iastore, 1) := dk_79 (dk_at dksX1_cover_9 13 rfl rfl)
theorem dX1_cover_225 : decode cX1_cover 225 = .ok (.iload 9, 2) := dk_21 9 (dk_at dksX1_cover_9 14 rfl rfl)
theorem dX1_cover_227 : decode cX1_cover 227 = .ok (.istore 6, 2) := dk_54 6 (dk_at dksX1_cover_9 16 rfl rfl)
theorem dX1_cover_229 : decode cX1_cover 229 = .ok (.iinc 7 1, 3) := dk_132 7 1 (dk_at dksX1_cover_9 18 rfl rfl)
theorem dX1_cover_232 : decode cX1_cover 232 = .ok (.goto (-83), 3) := dk_167 255 173 (dk_at dksX1_cover_9 21 rfl rfl)
theorem dX1_cover_235 : decode cX1_cover 235 = .ok (.aload_n 0, 1) := dk_42 (dk_at dksX1_cover_10 0 rfl rfl)
theorem dX1_cover_236 : decode cX1_cover 236 = .ok (.iload 5, 2) := dk_21 5 (dk_at dksX1_cover_10 1 rfl rfl)
theorem dX1_cover_238 : decode cX1_cover 238 = .ok (.bipush 40, 2) := dk_16 40 (dk_at dksX1_cover_10 3 rfl rfl)
theorem dX1_cover_240 : decode cX1_cover 240 = .ok (.if_icmp .le 8, 3) := dk_164 0 8 (dk_at dksX1_cover_10 5 rfl rfl)
theorem dX1_cover_243 : decode cX1_cover 243 = .ok (.bipush 40, 2) := dk_16 40 (dk_at dksX1_cover_10 8 rfl rfl)
theorem dX1_cover_245 : decode cX1_cover 245 = .ok (.goto 5, 3) := dk_167 0 5 (dk_at dksX1_cover_10 10 rfl rfl)
theorem dX1_cover_248 : decode cX1_cover 248 = .ok (.iload 5, 2) := dk_21 5 (dk_at dksX1_cover_10 13 rfl rfl)
theorem dX1_cover_250 : decode cX1_cover 250 = .ok (.putfield 151, 3) := dk_181 0 151 (dk_at dksX1_cover_10 15 rfl rfl)
theorem dX1_cover_253 : decode cX1_cover 253 = .ok (.aload_n 0, 1) := dk_42 (dk_at dksX1_cover_10 18 rfl rfl)
theorem dX1_cover_254 : decode cX1_cover 254 = .ok (.iload_n 2, 1) := dk_28 (dk_at dksX1_cover_10 19 rfl rfl)
theorem dX1_cover_255 : decode cX1_cover 255 = .ok (.invokevirtual 214, 3) := dk_182 0 214 (dk_at dksX1_cover_10 20 rfl rfl)
theorem dX1_cover_258 : decode cX1_cover 258 = .ok (.iload 5, 2) := dk_21 5 (dk_at dksX1_cover_11 0 rfl rfl)
theorem dX1_cover_260 : decode cX1_cover 260 = .ok (.ireturn, 1) := dk_172 (dk_at dksX1_cover_11 2 rfl rfl)
abbrev cX1_behindHere : ByteArray := prog_8_method_86_code
def yX1_behindHere : MethodName := ⟨RX1, "behindHere", "(II)I"⟩
def dkwX1_behindHere_5 : List UInt8 := [182, 1, 20, 167, 0, 4, 2, 172]
abbrev dktX1_behindHere_5 : List UInt8 := dkwX1_behindHere_5 ++ []
def dkwX1_behindHere_4 : List UInt8 := [21, 5, 153, 0, 7, 4, 167, 0, 4, 3, 62, 132, 4, 1, 167, 255, 158, 29, 153, 0, 10, 42]
abbrev dktX1_behindHere_4 : List UInt8 := dkwX1_behindHere_4 ++ dktX1_behindHere_5
def dkwX1_behindHere_3 : List UInt8 := [42, 180, 0, 91, 21, 4, 92, 46, 21, 5, 153, 0, 7, 4, 167, 0, 4, 3, 96, 79, 29, 154, 0, 8]
abbrev dktX1_behindHere_3 : List UInt8 := dkwX1_behindHere_3 ++ dktX1_behindHere_4
def dkwX1_behindHere_2 : List UInt8 := [21, 4, 46, 42, 180, 0, 91, 21, 4, 46, 182, 0, 148, 28, 160, 0, 7, 4, 167, 0, 4, 3, 54, 5]
abbrev dktX1_behindHere_2 : List UInt8 := dkwX1_behindHere_2 ++ dktX1_behindHere_3
def dkwX1_behindHere_1 : List UInt8 := [21, 4, 46, 42, 180, 0, 29, 42, 180, 0, 85, 21, 4, 46, 46, 162, 0, 29, 42, 42, 180, 0, 85]
abbrev dktX1_behindHere_1 : List UInt8 := dkwX1_behindHere_1 ++ dktX1_behindHere_2
def dkwX1_behindHere_0 : List UInt8 := [42, 27, 182, 1, 17, 3, 62, 3, 54, 4, 21, 4, 42, 180, 1, 14, 162, 0, 95, 42, 180, 0, 91]
abbrev dktX1_behindHere_0 : List UInt8 := dkwX1_behindHere_0 ++ dktX1_behindHere_1
theorem dksX1_behindHere_0 : cX1_behindHere.data.toList.drop 0 = dktX1_behindHere_0 := by decide +kernel
theorem dksX1_behindHere_1 : cX1_behindHere.data.toList.drop 23 = dktX1_behindHere_1 := dk_seg dksX1_behindHere_0 23 rfl rfl
theorem dksX1_behindHere_2 : cX1_behindHere.data.toList.drop 46 = dktX1_behindHere_2 := dk_seg dksX1_behindHere_1 23 rfl rfl
theorem dksX1_behindHere_3 : cX1_behindHere.data.toList.drop 70 = dktX1_behindHere_3 := dk_seg dksX1_behindHere_2 24 rfl rfl
theorem dksX1_behindHere_4 : cX1_behindHere.data.toList.drop 94 = dktX1_behindHere_4 := dk_seg dksX1_behindHere_3 24 rfl rfl
theorem dksX1_behindHere_5 : cX1_behindHere.data.toList.drop 116 = dktX1_behindHere_5 := dk_seg dksX1_behindHere_4 22 rfl rfl
theorem dX1_behindHere_0 : decode cX1_behindHere 0 = .ok (.aload_n 0, 1) := dk_42 (dk_at dksX1_behindHere_0 0 rfl rfl)
theorem dX1_behindHere_1 : decode cX1_behindHere 1 = .ok (.iload_n 1, 1) := dk_27 (dk_at dksX1_behindHere_0 1 rfl rfl)
theorem dX1_behindHere_2 : decode cX1_behindHere 2 = .ok (.invokevirtual 273, 3) := dk_182 1 17 (dk_at dksX1_behindHere_0 2 rfl rfl)
theorem dX1_behindHere_5 : decode cX1_behindHere 5 = .ok (.iconst 0, 1) := dk_3 (dk_at dksX1_behindHere_0 5 rfl rfl)
theorem dX1_behindHere_6 : decode cX1_behindHere 6 = .ok (.istore_n 3, 1) := dk_62 (dk_at dksX1_behindHere_0 6 rfl rfl)
theorem dX1_behindHere_7 : decode cX1_behindHere 7 = .ok (.iconst 0, 1) := dk_3 (dk_at dksX1_behindHere_0 7 rfl rfl)
theorem dX1_behindHere_8 : decode cX1_behindHere 8 = .ok (.istore 4, 2) := dk_54 4 (dk_at dksX1_behindHere_0 8 rfl rfl)
theorem dX1_behindHere_10 : decode cX1_behindHere 10 = .ok (.iload 4, 2) := dk_21 4 (dk_at dksX1_behindHere_0 10 rfl rfl)
theorem dX1_behindHere_12 : decode cX1_behindHere 12 = .ok (.aload_n 0, 1) := dk_42 (dk_at dksX1_behindHere_0 12 rfl rfl)
theorem dX1_behindHere_13 : decode cX1_behindHere 13 = .ok (.getfield 270, 3) := dk_180 1 14 (dk_at dksX1_behindHere_0 13 rfl rfl)
theorem dX1_behindHere_16 : decode cX1_behindHere 16 = .ok (.if_icmp .ge 95, 3) := dk_162 0 95 (dk_at dksX1_behindHere_0 16 rfl rfl)
theorem dX1_behindHere_19 : decode cX1_behindHere 19 = .ok (.aload_n 0, 1) := dk_42 (dk_at dksX1_behindHere_0 19 rfl rfl)
theorem dX1_behindHere_20 : decode cX1_behindHere 20 = .ok (.getfield 91, 3) := dk_180 0 91 (dk_at dksX1_behindHere_0 20 rfl rfl)
theorem dX1_behindHere_23 : decode cX1_behindHere 23 = .ok (.iload 4, 2) := dk_21 4 (dk_at dksX1_behindHere_1 0 rfl rfl)
theorem dX1_behindHere_25 : decode cX1_behindHere 25 = .ok (.iaload, 1) := dk_46 (dk_at dksX1_behindHere_1 2 rfl rfl)
theorem dX1_behindHere_26 : decode cX1_behindHere 26 = .ok (.aload_n 0, 1) := dk_42 (dk_at dksX1_behindHere_1 3 rfl rfl)
theorem dX1_behindHere_27 : decode cX1_behindHere 27 = .ok (.getfield 29, 3) := dk_180 0 29 (dk_at dksX1_behindHere_1 4 rfl rfl)
theorem dX1_behindHere_30 : decode cX1_behindHere 30 = .ok (.aload_n 0, 1) := dk_42 (dk_at dksX1_behindHere_1 7 rfl rfl)
theorem dX1_behindHere_31 : decode cX1_behindHere 31 = .ok (.getfield 85, 3) := dk_180 0 85 (dk_at dksX1_behindHere_1 8 rfl rfl)
theorem dX1_behindHere_34 : decode cX1_behindHere 34 = .ok (.iload 4, 2) := dk_21 4 (dk_at dksX1_behindHere_1 11 rfl rfl)
theorem dX1_behindHere_36 : decode cX1_behindHere 36 = .ok (.iaload, 1) := dk_46 (dk_at dksX1_behindHere_1 13 rfl rfl)
theorem dX1_behindHere_37 : decode cX1_behindHere 37 = .ok (.iaload, 1) := dk_46 (dk_at dksX1_behindHere_1 14 rfl rfl)
theorem dX1_behindHere_38 : decode cX1_behindHere 38 = .ok (.if_icmp .ge 29, 3) := dk_162 0 29 (dk_at dksX1_behindHere_1 15 rfl rfl)
theorem dX1_behindHere_41 : decode cX1_behindHere 41 = .ok (.aload_n 0, 1) := dk_42 (dk_at dksX1_behindHere_1 18 rfl rfl)
theorem dX1_behindHere_42 : decode cX1_behindHere 42 = .ok (.aload_n 0, 1) := dk_42 (dk_at dksX1_behindHere_1 19 rfl rfl)
theorem dX1_behindHere_43 : decode cX1_behindHere 43 = .ok (.getfield 85, 3) := dk_180 0 85 (dk_at dksX1_behindHere_1 20 rfl rfl)
theorem dX1_behindHere_46 : decode cX1_behindHere 46 = .ok (.iload 4, 2) := dk_21 4 (dk_at dksX1_behindHere_2 0 rfl rfl)
theorem dX1_behindHere_48 : decode cX1_behindHere 48 = .ok (.iaload, 1) := dk_46 (dk_at dksX1_behindHere_2 2 rfl rfl)
theorem dX1_behindHere_49 : decode cX1_behindHere 49 = .ok (.aload_n 0, 1) := dk_42 (dk_at dksX1_behindHere_2 3 rfl rfl)
theorem dX1_behindHere_50 : decode cX1_behindHere 50 = .ok (.getfield 91, 3) := dk_180 0 91 (dk_at dksX1_behindHere_2 4 rfl rfl)
theorem dX1_behindHere_53 : decode cX1_behindHere 53 = .ok (.iload 4, 2) := dk_21 4 (dk_at dksX1_behindHere_2 7 rfl rfl)
theorem dX1_behindHere_55 : decode cX1_behindHere 55 = .ok (.iaload, 1) := dk_46 (dk_at dksX1_behindHere_2 9 rfl rfl)
theorem dX1_behindHere_56 : decode cX1_behindHere 56 = .ok (.invokevirtual 148, 3) := dk_182 0 148 (dk_at dksX1_behindHere_2 10 rfl rfl)
theorem dX1_behindHere_59 : decode cX1_behindHere 59 = .ok (.iload_n 2, 1) := dk_28 (dk_at dksX1_behindHere_2 13 rfl rfl)
theorem dX1_behindHere_60 : decode cX1_behindHere 60 = .ok (.if_icmp .ne 7, 3) := dk_160 0 7 (dk_at dksX1_behindHere_2 14 rfl rfl)
theorem dX1_behindHere_63 : decode cX1_behindHere 63 = .ok (.iconst 1, 1) := dk_4 (dk_at dksX1_behindHere_2 17 rfl rfl)
theorem dX1_behindHere_64 : decode cX1_behindHere 64 = .ok (.goto 4, 3) := dk_167 0 4 (dk_at dksX1_behindHere_2 18 rfl rfl)
theorem dX1_behindHere_67 : decode cX1_behindHere 67 = .ok (.iconst 0, 1) := dk_3 (dk_at dksX1_behindHere_2 21 rfl rfl)
theorem dX1_behindHere_68 : decode cX1_behindHere 68 = .ok (.istore 5, 2) := dk_54 5 (dk_at dksX1_behindHere_2 22 rfl rfl)
theorem dX1_behindHere_70 : decode cX1_behindHere 70 = .ok (.aload_n 0, 1) := dk_42 (dk_at dksX1_behindHere_3 0 rfl rfl)
theorem dX1_behindHere_71 : decode cX1_behindHere 71 = .ok (.getfield 91, 3) := dk_180 0 91 (dk_at dksX1_behindHere_3 1 rfl rfl)
theorem dX1_behindHere_74 : decode cX1_behindHere 74 = .ok (.iload 4, 2) := dk_21 4 (dk_at dksX1_behindHere_3 4 rfl rfl)
theorem dX1_behindHere_76 : decode cX1_behindHere 76 = .ok (.dup2, 1) := dk_92 (dk_at dksX1_behindHere_3 6 rfl rfl)
theorem dX1_behindHere_77 : decode cX1_behindHere 77 = .ok (.iaload, 1) := dk_46 (dk_at dksX1_behindHere_3 7 rfl rfl)
theorem dX1_behindHere_78 : decode cX1_behindHere 78 = .ok (.iload 5, 2) := dk_21 5 (dk_at dksX1_behindHere_3 8 rfl rfl)
theorem dX1_behindHere_80 : decode cX1_behindHere 80 = .ok (.ifCond .eq 7, 3) := dk_153 0 7 (dk_at dksX1_behindHere_3 10 rfl rfl)
theorem dX1_behindHere_83 : decode cX1_behindHere 83 = .ok (.iconst 1, 1) := dk_4 (dk_at dksX1_behindHere_3 13 rfl rfl)
theorem dX1_behindHere_84 : decode cX1_behindHere 84 = .ok (.goto 4, 3) := dk_167 0 4 (dk_at dksX1_behindHere_3 14 rfl rfl)
theorem dX1_behindHere_87 : decode cX1_behindHere 87 = .ok (.iconst 0, 1) := dk_3 (dk_at dksX1_behindHere_3 17 rfl rfl)
theorem dX1_behindHere_88 : decode cX1_behindHere 88 = .ok (.iadd, 1) := dk_96 (dk_at dksX1_behindHere_3 18 rfl rfl)
theorem dX1_behindHere_89 : decode cX1_behindHere 89 = .ok (.iastore, 1) := dk_79 (dk_at dksX1_behindHere_3 19 rfl rfl)
theorem dX1_behindHere_90 : decode cX1_behindHere 90 = .ok (.iload_n 3, 1) := dk_29 (dk_at dksX1_behindHere_3 20 rfl rfl)
theorem dX1_behindHere_91 : decode cX1_behindHere 91 = .ok (.ifCond .ne 8, 3) := dk_154 0 8 (dk_at dksX1_behindHere_3 21 rfl rfl)
theorem dX1_behindHere_94 : decode cX1_behindHere 94 = .ok (.iload 5, 2) := dk_21 5 (dk_at dksX1_behindHere_4 0 rfl rfl)
theorem dX1_behindHere_96 : decode cX1_behindHere 96 = .ok (.ifCond .eq 7, 3) := dk_153 0 7 (dk_at dksX1_behindHere_4 2 rfl rfl)
theorem dX1_behindHere_99 : decode cX1_behindHere 99 = .ok (.iconst 1, 1) := dk_4 (dk_at dksX1_behindHere_4 5 rfl rfl)
theorem dX1_behindHere_100 : decode cX1_behindHere 100 = .ok (.goto 4, 3) := dk_167 0 4 (dk_at dksX1_behindHere_4 6 rfl rfl)
theorem dX1_behindHere_103 : decode cX1_behindHere 103 = .ok (.iconst 0, 1) := dk_3 (dk_at dksX1_behindHere_4 9 rfl rfl)
theorem dX1_behindHere_104 : decode cX1_behindHere 104 = .ok (.istore_n 3, 1) := dk_62 (dk_at dksX1_behindHere_4 10 rfl rfl)
theorem dX1_behindHere_105 : decode cX1_behindHere 105 = .ok (.iinc 4 1, 3) := dk_132 4 1 (dk_at dksX1_behindHere_4 11 rfl rfl)
theorem dX1_behindHere_108 : decode cX1_behindHere 108 = .ok (.goto (-98), 3) := dk_167 255 158 (dk_at dksX1_behindHere_4 14 rfl rfl)
theorem dX1_behindHere_111 : decode cX1_behindHere 111 = .ok (.iload_n 3, 1) := dk_29 (dk_at dksX1_behindHere_4 17 rfl rfl)
theorem dX1_behindHere_112 : decode cX1_behindHere 112 = .ok (.ifCond .eq 10, 3) := dk_153 0 10 (dk_at dksX1_behindHere_4 18 rfl rfl)
theorem dX1_behindHere_115 : decode cX1_behindHere 115 = .ok (.aload_n 0, 1) := dk_42 (dk_at dksX1_behindHere_4 21 rfl rfl)
theorem dX1_behindHere_116 : decode cX1_behindHere 116 = .ok (.invokevirtual 276, 3) := dk_182 1 20 (dk_at dksX1_behindHere_5 0 rfl rfl)
theorem dX1_behindHere_119 : decode cX1_behindHere 119 = .ok (.goto 4, 3) := dk_167 0 4 (dk_at dksX1_behindHere_5 3 rfl rfl)
theorem dX1_behindHere_122 : decode cX1_behindHere 122 = .ok (.iconst (-1), 1) := dk_2 (dk_at dksX1_behindHere_5 6 rfl rfl)
theorem dX1_behindHere_123 : decode cX1_behindHere 123 = .ok (.ireturn, 1) := dk_172 (dk_at dksX1_behindHere_5 7 rfl rfl)
abbrev cX1_both : ByteArray := prog_8_method_89_code
def yX1_both : MethodName := ⟨RX1, "both", "(II)I"⟩
def dkwX1_both_7 : List UInt8 := [182, 0, 202, 172]
abbrev dktX1_both_7 : List UInt8 := dkwX1_both_7 ++ []
def dkwX1_both_6 : List UInt8 := [167, 255, 171, 132, 5, 255, 167, 255, 143, 132, 4, 255, 167, 255, 124, 42, 42, 180, 0, 94, 3, 47, 4]
abbrev dktX1_both_6 : List UInt8 := dkwX1_both_6 ++ dktX1_both_7
def dkwX1_both_5 : List UInt8 := [42, 180, 0, 94, 16, 41, 21, 7, 4, 96, 104, 21, 8, 96, 4, 96, 47, 97, 80, 132, 6, 1]
abbrev dktX1_both_5 : List UInt8 := dkwX1_both_5 ++ dktX1_both_6
def dkwX1_both_4 : List UInt8 := [104, 21, 5, 96, 92, 47, 21, 7, 16, 247, 159, 0, 10, 21, 8, 16, 247, 160, 0, 7, 9, 167, 0, 20]
abbrev dktX1_both_4 : List UInt8 := dkwX1_both_4 ++ dktX1_both_5
def dkwX1_both_3 : List UInt8 := [182, 0, 206, 54, 7, 42, 28, 21, 5, 21, 6, 182, 0, 206, 54, 8, 42, 180, 0, 94, 16, 41, 21, 4]
abbrev dktX1_both_3 : List UInt8 := dkwX1_both_3 ++ dktX1_both_4
def dkwX1_both_2 : List UInt8 := [104, 21, 5, 96, 10, 80, 3, 54, 6, 21, 6, 42, 180, 0, 110, 162, 0, 82, 42, 27, 21, 4, 21, 6]
abbrev dktX1_both_2 : List UInt8 := dkwX1_both_2 ++ dktX1_both_3
def dkwX1_both_1 : List UInt8 := [155, 0, 133, 42, 180, 0, 29, 28, 46, 54, 5, 21, 5, 155, 0, 114, 42, 180, 0, 94, 16, 41, 21, 4]
abbrev dktX1_both_1 : List UInt8 := dkwX1_both_1 ++ dktX1_both_2
def dkwX1_both_0 : List UInt8 := [42, 4, 27, 28, 182, 0, 188, 62, 29, 156, 0, 5, 29, 172, 42, 180, 0, 29, 27, 46, 54, 4, 21, 4]
abbrev dktX1_both_0 : List UInt8 := dkwX1_both_0 ++ dktX1_both_1
theorem dksX1_both_0 : cX1_both.data.toList.drop 0 = dktX1_both_0 := by decide +kernel
theorem dksX1_both_1 : cX1_both.data.toList.drop 24 = dktX1_both_1 := dk_seg dksX1_both_0 24 rfl rfl
theorem dksX1_both_2 : cX1_both.data.toList.drop 48 = dktX1_both_2 := dk_seg dksX1_both_1 24 rfl rfl
theorem dksX1_both_3 : cX1_both.data.toList.drop 72 = dktX1_both_3 := dk_seg dksX1_both_2 24 rfl rfl
theorem dksX1_both_4 : cX1_both.data.toList.drop 96 = dktX1_both_4 := dk_seg dksX1_both_3 24 rfl rfl
theorem dksX1_both_5 : cX1_both.data.toList.drop 120 = dktX1_both_5 := dk_seg dksX1_both_4 24 rfl rfl
theorem dksX1_both_6 : cX1_both.data.toList.drop 142 = dktX1_both_6 := dk_seg dksX1_both_5 22 rfl rfl
theorem dksX1_both_7 : cX1_both.data.toList.drop 165 = dktX1_both_7 := dk_seg dksX1_both_6 23 rfl rfl
theorem dX1_both_0 : decode cX1_both 0 = .ok (.aload_n 0, 1) := dk_42 (dk_at dksX1_both_0 0 rfl rfl)
theorem dX1_both_1 : decode cX1_both 1 = .ok (.iconst 1, 1) := dk_4 (dk_at dksX1_both_0 1 rfl rfl)
theorem dX1_both_2 : decode cX1_both 2 = .ok (.iload_n 1, 1) := dk_27 (dk_at dksX1_both_0 2 rfl rfl)
theorem dX1_both_3 : decode cX1_both 3 = .ok (.iload_n 2, 1) := dk_28 (dk_at dksX1_both_0 3 rfl rfl)
theorem dX1_both_4 : decode cX1_both 4 = .ok (.invokevirtual 188, 3) := dk_182 0 188 (dk_at dksX1_both_0 4 rfl rfl)
theorem dX1_both_7 : decode cX1_both 7 = .ok (.istore_n 3, 1) := dk_62 (dk_at dksX1_both_0 7 rfl rfl)
theorem dX1_both_8 : decode cX1_both 8 = .ok (.iload_n 3, 1) := dk_29 (dk_at dksX1_both_0 8 rfl rfl)
theorem dX1_both_9 : decode cX1_both 9 = .ok (.ifCond .ge 5, 3) := dk_156 0 5 (dk_at dksX1_both_0 9 rfl rfl)
theorem dX1_both_12 : decode cX1_both 12 = .ok (.iload_n 3, 1) := dk_29 (dk_at dksX1_both_0 12 rfl rfl)
theorem dX1_both_13 : decode cX1_both 13 = .ok (.ireturn, 1) := dk_172 (dk_at dksX1_both_0 13 rfl rfl)
theorem dX1_both_14 : decode cX1_both 14 = .ok (.aload_n 0, 1) := dk_42 (dk_at dksX1_both_0 14 rfl rfl)
theorem dX1_both_15 : decode cX1_both 15 = .ok (.getfield 29, 3) := dk_180 0 29 (dk_at dksX1_both_0 15 rfl rfl)
theorem dX1_both_18 : decode cX1_both 18 = .ok (.iload_n 1, 1) := dk_27 (dk_at dksX1_both_0 18 rfl rfl)
theorem dX1_both_19 : decode cX1_both 19 = .ok (.iaload, 1) := dk_46 (dk_at dksX1_both_0 19 rfl rfl)
theorem dX1_both_20 : decode cX1_both 20 = .ok (.istore 4, 2) := dk_54 4 (dk_at dksX1_both_0 20 rfl rfl)
theorem dX1_both_22 : decode cX1_both 22 = .ok (.iload 4, 2) := dk_21 4 (dk_at dksX1_both_0 22 rfl rfl)
theorem dX1_both_24 : decode cX1_both 24 = .ok (.ifCond .lt 133, 3) := dk_155 0 133 (dk_at dksX1_both_1 0 rfl rfl)
theorem dX1_both_27 : decode cX1_both 27 = .ok (.aload_n 0, 1) := dk_42 (dk_at dksX1_both_1 3 rfl rfl)
theorem dX1_both_28 : decode cX1_both 28 = .ok (.getfield 29, 3) := dk_180 0 29 (dk_at dksX1_both_1 4 rfl rfl)
theorem dX1_both_31 : decode cX1_both 31 = .ok (.iload_n 2, 1) := dk_28 (dk_at dksX1_both_1 7 rfl rfl)
theorem dX1_both_32 : decode cX1_both 32 = .ok (.iaload, 1) := dk_46 (dk_at dksX1_both_1 8 rfl rfl)
theorem dX1_both_33 : decode cX1_both 33 = .ok (.istore 5, 2) := dk_54 5 (dk_at dksX1_both_1 9 rfl rfl)
theorem dX1_both_35 : decode cX1_both 35 = .ok (.iload 5, 2) := dk_21 5 (dk_at dksX1_both_1 11 rfl rfl)
theorem dX1_both_37 : decode cX1_both 37 = .ok (.ifCond .lt 114, 3) := dk_155 0 114 (dk_at dksX1_both_1 13 rfl rfl)
theorem dX1_both_40 : decode cX1_both 40 = .ok (.aload_n 0, 1) := dk_42 (dk_at dksX1_both_1 16 rfl rfl)
theorem dX1_both_41 : decode cX1_both 41 = .ok (.getfield 94, 3) := dk_180 0 94 (dk_at dksX1_both_1 17 rfl rfl)
theorem dX1_both_44 : decode cX1_both 44 = .ok (.bipush 41, 2) := dk_16 41 (dk_at dksX1_both_1 20 rfl rfl)
theorem dX1_both_46 : decode cX1_both 46 = .ok (.iload 4, 2) := dk_21 4 (dk_at dksX1_both_1 22 rfl rfl)
theorem dX1_both_48 : decode cX1_both 48 = .ok (.imul, 1) := dk_104 (dk_at dksX1_both_2 0 rfl rfl)
theorem dX1_both_49 : decode cX1_both 49 = .ok (.iload 5, 2) := dk_21 5 (dk_at dksX1_both_2 1 rfl rfl)
theorem dX1_both_51 : decode cX1_both 51 = .ok (.iadd, 1) := dk_96 (dk_at dksX1_both_2 3 rfl rfl)
theorem dX1_both_52 : decode cX1_both 52 = .ok (.lconst 1, 1) := dk_10 (dk_at dksX1_both_2 4 rfl rfl)
theorem dX1_both_53 : decode cX1_both 53 = .ok (.lastore, 1) := dk_80 (dk_at dksX1_both_2 5 rfl rfl)
theorem dX1_both_54 : decode cX1_both 54 = .ok (.iconst 0, 1) := dk_3 (dk_at dksX1_both_2 6 rfl rfl)
theorem dX1_both_55 : decode cX1_both 55 = .ok (.istore 6, 2) := dk_54 6 (dk_at dksX1_both_2 7 rfl rfl)
theorem dX1_both_57 : decode cX1_both 57 = .ok (.iload 6, 2) := dk_21 6 (dk_at dksX1_both_2 9 rfl rfl)
theorem dX1_both_59 : decode cX1_both 59 = .ok (.aload_n 0, 1) := dk_42 (dk_at dksX1_both_2 11 rfl rfl)
theorem dX1_both_60 : decode cX1_both 60 = .ok (.getfield 110, 3) := dk_180 0 110 (dk_at dksX1_both_2 12 rfl rfl)
theorem dX1_both_63 : decode cX1_both 63 = .ok (.if_icmp .ge 82, 3) := dk_162 0 82 (dk_at dksX1_both_2 15 rfl rfl)
theorem dX1_both_66 : decode cX1_both 66 = .ok (.aload_n 0, 1) := dk_42 (dk_at dksX1_both_2 18 rfl rfl)
theorem dX1_both_67 : decode cX1_both 67 = .ok (.iload_n 1, 1) := dk_27 (dk_at dksX1_both_2 19 rfl rfl)
theorem dX1_both_68 : decode cX1_both 68 = .ok (.iload 4, 2) := dk_21 4 (dk_at dksX1_both_2 20 rfl rfl)
theorem dX1_both_70 : decode cX1_both 70 = .ok (.iload 6, 2) := dk_21 6 (dk_at dksX1_both_2 22 rfl rfl)
theorem dX1_both_72 : decode cX1_both 72 = .ok (.invokevirtual 206, 3) := dk_182 0 206 (dk_at dksX1_both_3 0 rfl rfl)
theorem dX1_both_75 : decode cX1_both 75 = .ok (.istore 7, 2) := dk_54 7 (dk_at dksX1_both_3 3 rfl rfl)
theorem dX1_both_77 : decode cX1_both 77 = .ok (.aload_n 0, 1) := dk_42 (dk_at dksX1_both_3 5 rfl rfl)
theorem dX1_both_78 : decode cX1_both 78 = .ok (.iload_n 2, 1) := dk_28 (dk_at dksX1_both_3 6 rfl rfl)
theorem dX1_both_79 : decode cX1_both 79 = .ok (.iload 5, 2) := dk_21 5 (dk_at dksX1_both_3 7 rfl rfl)
theorem dX1_both_81 : decode cX1_both 81 = .ok (.iload 6, 2) := dk_21 6 (dk_at dksX1_both_3 9 rfl rfl)
theorem dX1_both_83 : decode cX1_both 83 = .ok (.invokevirtual 206, 3) := dk_182 0 206 (dk_at dksX1_both_3 11 rfl rfl)
theorem dX1_both_86 : decode cX1_both 86 = .ok (.istore 8, 2) := dk_54 8 (dk_at dksX1_both_3 14 rfl rfl)
theorem dX1_both_88 : decode cX1_both 88 = .ok (.aload_n 0, 1) := dk_42 (dk_at dksX1_both_3 16 rfl rfl)
theorem dX1_both_89 : decode cX1_both 89 = .ok (.getfield 94, 3) := dk_180 0 94 (dk_at dksX1_both_3 17 rfl rfl)
theorem dX1_both_92 : decode cX1_both 92 = .ok (.bipush 41, 2) := dk_16 41 (dk_at dksX1_both_3 20 rfl rfl)
theorem dX1_both_94 : decode cX1_both 94 = .ok (.iload 4, 2) := dk_21 4 (dk_at dksX1_both_3 22 rfl rfl)
theorem dX1_both_96 : decode cX1_both 96 = .ok (.imul, 1) := dk_104 (dk_at dksX1_both_4 0 rfl rfl)
theorem dX1_both_97 : decode cX1_both 97 = .ok (.iload 5, 2) := dk_21 5 (dk_at dksX1_both_4 1 rfl rfl)
theorem dX1_both_99 : decode cX1_both 99 = .ok (.iadd, 1) := dk_96 (dk_at dksX1_both_4 3 rfl rfl)
theorem dX1_both_100 : decode cX1_both 100 = .ok (.dup2, 1) := dk_92 (dk_at dksX1_both_4 4 rfl rfl)
theorem dX1_both_101 : decode cX1_both 101 = .ok (.laload, 1) := dk_47 (dk_at dksX1_both_4 5 rfl rfl)
theorem dX1_both_102 : decode cX1_both 102 = .ok (.iload 7, 2) := dk_21 7 (dk_at dksX1_both_4 6 rfl rfl)
theorem dX1_both_104 : decode cX1_both 104 = .ok (.bipush (-9), 2) := dk_16 247 (dk_at dksX1_both_4 8 rfl rfl)
theorem dX1_both_106 : decode cX1_both 106 = .ok (.if_icmp .eq 10, 3) := dk_159 0 10 (dk_at dksX1_both_4 10 rfl rfl)
theorem dX1_both_109 : decode cX1_both 109 = .ok (.iload 8, 2) := dk_21 8 (dk_at dksX1_both_4 13 rfl rfl)
theorem dX1_both_111 : decode cX1_both 111 = .ok (.bipush (-9), 2) := dk_16 247 (dk_at dksX1_both_4 15 rfl rfl)
theorem dX1_both_113 : decode cX1_both 113 = .ok (.if_icmp .ne 7, 3) := dk_160 0 7 (dk_at dksX1_both_4 17 rfl rfl)
theorem dX1_both_116 : decode cX1_both 116 = .ok (.lconst 0, 1) := dk_9 (dk_at dksX1_both_4 20 rfl rfl)
theorem dX1_both_117 : decode cX1_both 117 = .ok (.goto 20, 3) := dk_167 0 20 (dk_at dksX1_both_4 21 rfl rfl)
theorem dX1_both_120 : decode cX1_both 120 = .ok (.aload_n 0, 1) := dk_42 (dk_at dksX1_both_5 0 rfl rfl)
theorem dX1_both_121 : decode cX1_both 121 = .ok (.getfield 94, 3) := dk_180 0 94 (dk_at dksX1_both_5 1 rfl rfl)
theorem dX1_both_124 : decode cX1_both 124 = .ok (.bipush 41, 2) := dk_16 41 (dk_at dksX1_both_5 4 rfl rfl)
theorem dX1_both_126 : decode cX1_both 126 = .ok (.iload 7, 2) := dk_21 7 (dk_at dksX1_both_5 6 rfl rfl)
theorem dX1_both_128 : decode cX1_both 128 = .ok (.iconst 1, 1) := dk_4 (dk_at dksX1_both_5 8 rfl rfl)
theorem dX1_both_129 : decode cX1_both 129 = .ok (.iadd, 1) := dk_96 (dk_at dksX1_both_5 9 rfl rfl)
theorem dX1_both_130 : decode cX1_both 130 = .ok (.imul, 1) := dk_104 (dk_at dksX1_both_5 10 rfl rfl)
theorem dX1_both_131 : decode cX1_both 131 = .ok (.iload 8, 2) := dk_21 8 (dk_at dksX1_both_5 11 rfl rfl)
theorem dX1_both_133 : decode cX1_both 133 = .ok (.iadd, 1) := dk_96 (dk_at dksX1_both_5 13 rfl rfl)
theorem dX1_both_134 : decode cX1_both 134 = .ok (.iconst 1, 1) := dk_4 (dk_at dksX1_both_5 14 rfl rfl)
theorem dX1_both_135 : decode cX1_both 135 = .ok (.iadd, 1) := dk_96 (dk_at dksX1_both_5 15 rfl rfl)
theorem dX1_both_136 : decode cX1_both 136 = .ok (.laload, 1) := dk_47 (dk_at dksX1_both_5 16 rfl rfl)
theorem dX1_both_137 : decode cX1_both 137 = .ok (.ladd, 1) := dk_97 (dk_at dksX1_both_5 17 rfl rfl)
theorem dX1_both_138 : decode cX1_both 138 = .ok (.lastore, 1) := dk_80 (dk_at dksX1_both_5 18 rfl rfl)
theorem dX1_both_139 : decode cX1_both 139 = .ok (.iinc 6 1, 3) := dk_132 6 1 (dk_at dksX1_both_5 19 rfl rfl)
theorem dX1_both_142 : decode cX1_both 142 = .ok (.goto (-85), 3) := dk_167 255 171 (dk_at dksX1_both_6 0 rfl rfl)
theorem dX1_both_145 : decode cX1_both 145 = .ok (.iinc 5 (-1), 3) := dk_132 5 255 (dk_at dksX1_both_6 3 rfl rfl)
theorem dX1_both_148 : decode cX1_both 148 = .ok (.goto (-113), 3) := dk_167 255 143 (dk_at dksX1_both_6 6 rfl rfl)
theorem dX1_both_151 : decode cX1_both 151 = .ok (.iinc 4 (-1), 3) := dk_132 4 255 (dk_at dksX1_both_6 9 rfl rfl)
theorem dX1_both_154 : decode cX1_both 154 = .ok (.goto (-132), 3) := dk_167 255 124 (dk_at dksX1_both_6 12 rfl rfl)
theorem dX1_both_157 : decode cX1_both 157 = .ok (.aload_n 0, 1) := dk_42 (dk_at dksX1_both_6 15 rfl rfl)
theorem dX1_both_158 : decode cX1_both 158 = .ok (.aload_n 0, 1) := dk_42 (dk_at dksX1_both_6 16 rfl rfl)
theorem dX1_both_159 : decode cX1_both 159 = .ok (.getfield 94, 3) := dk_180 0 94 (dk_at dksX1_both_6 17 rfl rfl)
theorem dX1_both_162 : decode cX1_both 162 = .ok (.iconst 0, 1) := dk_3 (dk_at dksX1_both_6 20 rfl rfl)
theorem dX1_both_163 : decode cX1_both 163 = .ok (.laload, 1) := dk_47 (dk_at dksX1_both_6 21 rfl rfl)
theorem dX1_both_164 : decode cX1_both 164 = .ok (.iconst 1, 1) := dk_4 (dk_at dksX1_both_6 22 rfl rfl)
theorem dX1_both_165 : decode cX1_both 165 = .ok (.invokevirtual 202, 3) := dk_182 0 202 (dk_at dksX1_both_7 0 rfl rfl)
theorem dX1_both_168 : decode cX1_both 168 = .ok (.ireturn, 1) := dk_172 (dk_at dksX1_both_7 3 rfl rfl)
abbrev cX1_twins : ByteArray := prog_8_method_93_code
def yX1_twins : MethodName := ⟨RX1, "twins", "(III)I"⟩
def dkwX1_twins_10 : List UInt8 := [29, 182, 0, 214, 21, 9, 172]
abbrev dktX1_twins_10 : List UInt8 := dkwX1_twins_10 ++ []
def dkwX1_twins_9 : List UInt8 := [46, 79, 132, 11, 1, 167, 255, 227, 132, 9, 1, 132, 10, 1, 167, 255, 180, 42, 21, 5, 181, 0, 151, 42]
abbrev dktX1_twins_9 : List UInt8 := dkwX1_twins_9 ++ dktX1_twins_10
def dkwX1_twins_8 : List UInt8 := [21, 11, 21, 5, 162, 0, 28, 21, 9, 154, 0, 23, 42, 180, 0, 44, 21, 11, 42, 180, 0, 82, 21, 11]
abbrev dktX1_twins_8 : List UInt8 := dkwX1_twins_8 ++ dktX1_twins_9
def dkwX1_twins_7 : List UInt8 := [182, 1, 42, 42, 21, 5, 28, 21, 8, 182, 1, 45, 153, 0, 47, 42, 21, 5, 181, 0, 151, 3, 54, 11]
abbrev dktX1_twins_7 : List UInt8 := dkwX1_twins_7 ++ dktX1_twins_8
def dkwX1_twins_6 : List UInt8 := [167, 255, 230, 3, 54, 9, 3, 54, 10, 21, 10, 133, 22, 6, 148, 156, 0, 73, 42, 21, 10, 21, 5]
abbrev dktX1_twins_6 : List UInt8 := dkwX1_twins_6 ++ dktX1_twins_7
def dkwX1_twins_5 : List UInt8 := [21, 8, 162, 0, 25, 42, 180, 0, 97, 21, 9, 42, 21, 5, 21, 9, 28, 182, 1, 36, 80, 132, 9, 1]
abbrev dktX1_twins_5 : List UInt8 := dkwX1_twins_5 ++ dktX1_twins_6
def dkwX1_twins_4 : List UInt8 := [172, 42, 180, 0, 110, 133, 28, 184, 0, 239, 136, 54, 8, 42, 27, 182, 0, 255, 3, 54, 9, 21, 9]
abbrev dktX1_twins_4 : List UInt8 := dkwX1_twins_4 ++ dktX1_twins_5
def dkwX1_twins_3 : List UInt8 := [180, 0, 110, 133, 105, 55, 6, 132, 8, 1, 167, 255, 227, 22, 6, 20, 1, 40, 148, 158, 0, 6, 16, 250]
abbrev dktX1_twins_3 : List UInt8 := dkwX1_twins_3 ++ dktX1_twins_4
def dkwX1_twins_2 : List UInt8 := [3, 54, 8, 21, 8, 21, 5, 162, 0, 28, 22, 6, 20, 1, 40, 148, 157, 0, 19, 22, 6, 42]
abbrev dktX1_twins_2 : List UInt8 := dkwX1_twins_2 ++ dktX1_twins_3
def dkwX1_twins_1 : List UInt8 := [182, 0, 192, 54, 4, 21, 4, 156, 0, 6, 21, 4, 172, 42, 180, 0, 29, 27, 46, 54, 5, 10, 55, 6]
abbrev dktX1_twins_1 : List UInt8 := dkwX1_twins_1 ++ dktX1_twins_2
def dkwX1_twins_0 : List UInt8 := [42, 28, 4, 6, 184, 0, 117, 153, 0, 14, 29, 184, 0, 130, 153, 0, 7, 4, 167, 0, 4, 3, 27]
abbrev dktX1_twins_0 : List UInt8 := dkwX1_twins_0 ++ dktX1_twins_1
theorem dksX1_twins_0 : cX1_twins.data.toList.drop 0 = dktX1_twins_0 := by decide +kernel
theorem dksX1_twins_1 : cX1_twins.data.toList.drop 23 = dktX1_twins_1 := dk_seg dksX1_twins_0 23 rfl rfl
theorem dksX1_twins_2 : cX1_twins.data.toList.drop 47 = dktX1_twins_2 := dk_seg dksX1_twins_1 24 rfl rfl
theorem dksX1_twins_3 : cX1_twins.data.toList.drop 69 = dktX1_twins_3 := dk_seg dksX1_twins_2 22 rfl rfl
theorem dksX1_twins_4 : cX1_twins.data.toList.drop 93 = dktX1_twins_4 := dk_seg dksX1_twins_3 24 rfl rfl
theorem dksX1_twins_5 : cX1_twins.data.toList.drop 116 = dktX1_twins_5 := dk_seg dksX1_twins_4 23 rfl rfl
theorem dksX1_twins_6 : cX1_twins.data.toList.drop 140 = dktX1_twins_6 := dk_seg dksX1_twins_5 24 rfl rfl
theorem dksX1_twins_7 : cX1_twins.data.toList.drop 163 = dktX1_twins_7 := dk_seg dksX1_twins_6 23 rfl rfl
theorem dksX1_twins_8 : cX1_twins.data.toList.drop 187 = dktX1_twins_8 := dk_seg dksX1_twins_7 24 rfl rfl
theorem dksX1_twins_9 : cX1_twins.data.toList.drop 211 = dktX1_twins_9 := dk_seg dksX1_twins_8 24 rfl rfl
theorem dksX1_twins_10 : cX1_twins.data.toList.drop 235 = dktX1_twins_10 := dk_seg dksX1_twins_9 24 rfl rfl
theorem dX1_twins_0 : decode cX1_twins 0 = .ok (.aload_n 0, 1) := dk_42 (dk_at dksX1_twins_0 0 rfl rfl)
theorem dX1_twins_1 : decode cX1_twins 1 = .ok (.iload_n 2, 1) := dk_28 (dk_at dksX1_twins_0 1 rfl rfl)
theorem dX1_twins_2 : decode cX1_twins 2 = .ok (.iconst 1, 1) := dk_4 (dk_at dksX1_twins_0 2 rfl rfl)
theorem dX1_twins_3 : decode cX1_twins 3 = .ok (.iconst 3, 1) := dk_6 (dk_at dksX1_twins_0 3 rfl rfl)
theorem dX1_twins_4 : decode cX1_twins 4 = .ok (.invokestatic 117, 3) := dk_184 0 117 (dk_at dksX1_twins_0 4 rfl rfl)
theorem dX1_twins_7 : decode cX1_twins 7 = .ok (.ifCond .eq 14, 3) := dk_153 0 14 (dk_at dksX1_twins_0 7 rfl rfl)
theorem dX1_twins_10 : decode cX1_twins 10 = .ok (.iload_n 3, 1) := dk_29 (dk_at dksX1_twins_0 10 rfl rfl)
theorem dX1_twins_11 : decode cX1_twins 11 = .ok (.invokestatic 130, 3) := dk_184 0 130 (dk_at dksX1_twins_0 11 rfl rfl)
theorem dX1_twins_14 : decode cX1_twins 14 = .ok (.ifCond .eq 7, 3) := dk_153 0 7 (dk_at dksX1_twins_0 14 rfl rfl)
theorem dX1_twins_17 : decode cX1_twins 17 = .ok (.iconst 1, 1) := dk_4 (dk_at dksX1_twins_0 17 rfl rfl)
theorem dX1_twins_18 : decode cX1_twins 18 = .ok (.goto 4, 3) := dk_167 0 4 (dk_at dksX1_twins_0 18 rfl rfl)
theorem dX1_twins_21 : decode cX1_twins 21 = .ok (.iconst 0, 1) := dk_3 (dk_at dksX1_twins_0 21 rfl rfl)
theorem dX1_twins_22 : decode cX1_twins 22 = .ok (.iload_n 1, 1) := dk_27 (dk_at dksX1_twins_0 22 rfl rfl)
theorem dX1_twins_23 : decode cX1_twins 23 = .ok (.invokevirtual 192, 3) := dk_182 0 192 (dk_at dksX1_twins_1 0 rfl rfl)
theorem dX1_twins_26 : decode cX1_twins 26 = .ok (.istore 4, 2) := dk_54 4 (dk_at dksX1_twins_1 3 rfl rfl)
theorem dX1_twins_28 : decode cX1_twins 28 = .ok (.iload 4, 2) := dk_21 4 (dk_at dksX1_twins_1 5 rfl rfl)
theorem dX1_twins_30 : decode cX1_twins 30 = .ok (.ifCond .ge 6, 3) := dk_156 0 6 (dk_at dksX1_twins_1 7 rfl rfl)
theorem dX1_twins_33 : decode cX1_twins 33 = .ok (.iload 4, 2) := dk_21 4 (dk_at dksX1_twins_1 10 rfl rfl)
theorem dX1_twins_35 : decode cX1_twins 35 = .ok (.ireturn, 1) := dk_172 (dk_at dksX1_twins_1 12 rfl rfl)
theorem dX1_twins_36 : decode cX1_twins 36 = .ok (.aload_n 0, 1) := dk_42 (dk_at dksX1_twins_1 13 rfl rfl)
theorem dX1_twins_37 : decode cX1_twins 37 = .ok (.getfield 29, 3) := dk_180 0 29 (dk_at dksX1_twins_1 14 rfl rfl)
theorem dX1_twins_40 : decode cX1_twins 40 = .ok (.iload_n 1, 1) := dk_27 (dk_at dksX1_twins_1 17 rfl rfl)
theorem dX1_twins_41 : decode cX1_twins 41 = .ok (.iaload, 1) := dk_46 (dk_at dksX1_twins_1 18 rfl rfl)
theorem dX1_twins_42 : decode cX1_twins 42 = .ok (.istore 5, 2) := dk_54 5 (dk_at dksX1_twins_1 19 rfl rfl)
theorem dX1_twins_44 : decode cX1_twins 44 = .ok (.lconst 1, 1) := dk_10 (dk_at dksX1_twins_1 21 rfl rfl)
theorem dX1_twins_45 : decode cX1_twins 45 = .ok (.lstore 6, 2) := dk_55 6 (dk_at dksX1_twins_1 22 rfl rfl)
theorem dX1_twins_47 : decode cX1_twins 47 = .ok (.iconst 0, 1) := dk_3 (dk_at dksX1_twins_2 0 rfl rfl)
theorem dX1_twins_48 : decode cX1_twins 48 = .ok (.istore 8, 2) := dk_54 8 (dk_at dksX1_twins_2 1 rfl rfl)
theorem dX1_twins_50 : decode cX1_twins 50 = .ok (.iload 8, 2) := dk_21 8 (dk_at dksX1_twins_2 3 rfl rfl)
theorem dX1_twins_52 : decode cX1_twins 52 = .ok (.iload 5, 2) := dk_21 5 (dk_at dksX1_twins_2 5 rfl rfl)
theorem dX1_twins_54 : decode cX1_twins 54 = .ok (.if_icmp .ge 28, 3) := dk_162 0 28 (dk_at dksX1_twins_2 7 rfl rfl)
theorem dX1_twins_57 : decode cX1_twins 57 = .ok (.lload 6, 2) := dk_22 6 (dk_at dksX1_twins_2 10 rfl rfl)
theorem dX1_twins_59 : decode cX1_twins 59 = .ok (.ldc2_w 296, 3) := dk_20 1 40 (dk_at dksX1_twins_2 12 rfl rfl)
theorem dX1_twins_62 : decode cX1_twins 62 = .ok (.lcmp, 1) := dk_148 (dk_at dksX1_twins_2 15 rfl rfl)
theorem dX1_twins_63 : decode cX1_twins 63 = .ok (.ifCond .gt 19, 3) := dk_157 0 19 (dk_at dksX1_twins_2 16 rfl rfl)
theorem dX1_twins_66 : decode cX1_twins 66 = .ok (.lload 6, 2) := dk_22 6 (dk_at dksX1_twins_2 19 rfl rfl)
theorem dX1_twins_68 : decode cX1_twins 68 = .ok (.aload_n 0, 1) := dk_42 (dk_at dksX1_twins_2 21 rfl rfl)
theorem dX1_twins_69 : decode cX1_twins 69 = .ok (.getfield 110, 3) := dk_180 0 110 (dk_at dksX1_twins_3 0 rfl rfl)
theorem dX1_twins_72 : decode cX1_twins 72 = .ok (.i2l, 1) := dk_133 (dk_at dksX1_twins_3 3 rfl rfl)
theorem dX1_twins_73 : decode cX1_twins 73 = .ok (.lmul, 1) := dk_105 (dk_at dksX1_twins_3 4 rfl rfl)
theorem dX1_twins_74 : decode cX1_twins 74 = .ok (.lstore 6, 2) := dk_55 6 (dk_at dksX1_twins_3 5 rfl rfl)
theorem dX1_twins_76 : decode cX1_twins 76 = .ok (.iinc 8 1, 3) := dk_132 8 1 (dk_at dksX1_twins_3 7 rfl rfl)
theorem dX1_twins_79 : decode cX1_twins 79 = .ok (.goto (-29), 3) := dk_167 255 227 (dk_at dksX1_twins_3 10 rfl rfl)
theorem dX1_twins_82 : decode cX1_twins 82 = .ok (.lload 6, 2) := dk_22 6 (dk_at dksX1_twins_3 13 rfl rfl)
theorem dX1_twins_84 : decode cX1_twins 84 = .ok (.ldc2_w 296, 3) := dk_20 1 40 (dk_at dksX1_twins_3 15 rfl rfl)
theorem dX1_twins_87 : decode cX1_twins 87 = .ok (.lcmp, 1) := dk_148 (dk_at dksX1_twins_3 18 rfl rfl)
theorem dX1_twins_88 : decode cX1_twins 88 = .ok (.ifCond .le 6, 3) := dk_158 0 6 (dk_at dksX1_twins_3 19 rfl rfl)
theorem dX1_twins_91 : decode cX1_twins 91 = .ok (.bipush (-6), 2) := dk_16 250 (dk_at dksX1_twins_3 22 rfl rfl)
theorem dX1_twins_93 : decode cX1_twins 93 = .ok (.ireturn, 1) := dk_172 (dk_at dksX1_twins_4 0 rfl rfl)
theorem dX1_twins_94 : decode cX1_twins 94 = .ok (.aload_n 0, 1) := dk_42 (dk_at dksX1_twins_4 1 rfl rfl)
theorem dX1_twins_95 : decode cX1_twins 95 = .ok (.getfield 110, 3) := dk_180 0 110 (dk_at dksX1_twins_4 2 rfl rfl)
theorem dX1_twins_98 : decode cX1_twins 98 = .ok (.i2l, 1) := dk_133 (dk_at dksX1_twins_4 5 rfl rfl)
theorem dX1_twins_99 : decode cX1_twins 99 = .ok (.iload_n 2, 1) := dk_28 (dk_at dksX1_twins_4 6 rfl rfl)
theorem dX1_twins_100 : decode cX1_twins 100 = .ok (.invokestatic 239, 3) := dk_184 0 239 (dk_at dksX1_twins_4 7 rfl rfl)
theorem dX1_twins_103 : decode cX1_twins 103 = .ok (.l2i, 1) := dk_136 (dk_at dksX1_twins_4 10 rfl rfl)
theorem dX1_twins_104 : decode cX1_twins 104 = .ok (.istore 8, 2) := dk_54 8 (dk_at dksX1_twins_4 11 rfl rfl)
theorem dX1_twins_106 : decode cX1_twins 106 = .ok (.aload_n 0, 1) := dk_42 (dk_at dksX1_twins_4 13 rfl rfl)
theorem dX1_twins_107 : decode cX1_twins 107 = .ok (.iload_n 1, 1) := dk_27 (dk_at dksX1_twins_4 14 rfl rfl)
theorem dX1_twins_108 : decode cX1_twins 108 = .ok (.invokevirtual 255, 3) := dk_182 0 255 (dk_at dksX1_twins_4 15 rfl rfl)
theorem dX1_twins_111 : decode cX1_twins 111 = .ok (.iconst 0, 1) := dk_3 (dk_at dksX1_twins_4 18 rfl rfl)
theorem dX1_twins_112 : decode cX1_twins 112 = .ok (.istore 9, 2) := dk_54 9 (dk_at dksX1_twins_4 19 rfl rfl)
theorem dX1_twins_114 : decode cX1_twins 114 = .ok (.iload 9, 2) := dk_21 9 (dk_at dksX1_twins_4 21 rfl rfl)
theorem dX1_twins_116 : decode cX1_twins 116 = .ok (.iload 8, 2) := dk_21 8 (dk_at dksX1_twins_5 0 rfl rfl)
theorem dX1_twins_118 : decode cX1_twins 118 = .ok (.if_icmp .ge 25, 3) := dk_162 0 25 (dk_at dksX1_twins_5 2 rfl rfl)
theorem dX1_twins_121 : decode cX1_twins 121 = .ok (.aload_n 0, 1) := dk_42 (dk_at dksX1_twins_5 5 rfl rfl)
theorem dX1_twins_122 : decode cX1_twins 122 = .ok (.getfield 97, 3) := dk_180 0 97 (dk_at dksX1_twins_5 6 rfl rfl)
theorem dX1_twins_125 : decode cX1_twins 125 = .ok (.iload 9, 2) := dk_21 9 (dk_at dksX1_twins_5 9 rfl rfl)
theorem dX1_twins_127 : decode cX1_twins 127 = .ok (.aload_n 0, 1) := dk_42 (dk_at dksX1_twins_5 11 rfl rfl)
theorem dX1_twins_128 : decode cX1_twins 128 = .ok (.iload 5, 2) := dk_21 5 (dk_at dksX1_twins_5 12 rfl rfl)
theorem dX1_twins_130 : decode cX1_twins 130 = .ok (.iload 9, 2) := dk_21 9 (dk_at dksX1_twins_5 14 rfl rfl)
theorem dX1_twins_132 : decode cX1_twins 132 = .ok (.iload_n 2, 1) := dk_28 (dk_at dksX1_twins_5 16 rfl rfl)
theorem dX1_twins_133 : decode cX1_twins 133 = .ok (.invokevirtual 292, 3) := dk_182 1 36 (dk_at dksX1_twins_5 17 rfl rfl)
theorem dX1_twins_136 : decode cX1_twins 136 = .ok (.lastore, 1) := dk_80 (dk_at dksX1_twins_5 20 rfl rfl)
theorem dX1_twins_137 : decode cX1_twins 137 = .ok (.iinc 9 1, 3) := dk_132 9 1 (dk_at dksX1_twins_5 21 rfl rfl)
theorem dX1_twins_140 : decode cX1_twins 140 = .ok (.goto (-26), 3) := dk_167 255 230 (dk_at dksX1_twins_6 0 rfl rfl)
theorem dX1_twins_143 : decode cX1_twins 143 = .ok (.iconst 0, 1) := dk_3 (dk_at dksX1_twins_6 3 rfl rfl)
theorem dX1_twins_144 : decode cX1_twins 144 = .ok (.istore 9, 2) := dk_54 9 (dk_at dksX1_twins_6 4 rfl rfl)
theorem dX1_twins_146 : decode cX1_twins 146 = .ok (.iconst 0, 1) := dk_3 (dk_at dksX1_twins_6 6 rfl rfl)
theorem dX1_twins_147 : decode cX1_twins 147 = .ok (.istore 10, 2) := dk_54 10 (dk_at dksX1_twins_6 7 rfl rfl)
theorem dX1_twins_149 : decode cX1_twins 149 = .ok (.iload 10, 2) := dk_21 10 (dk_at dksX1_twins_6 9 rfl rfl)
theorem dX1_twins_151 : decode cX1_twins 151 = .ok (.i2l, 1) := dk_133 (dk_at dksX1_twins_6 11 rfl rfl)
theorem dX1_twins_152 : decode cX1_twins 152 = .ok (.lload 6, 2) := dk_22 6 (dk_at dksX1_twins_6 12 rfl rfl)
theorem dX1_twins_154 : decode cX1_twins 154 = .ok (.lcmp, 1) := dk_148 (dk_at dksX1_twins_6 14 rfl rfl)
theorem dX1_twins_155 : decode cX1_twins 155 = .ok (.ifCond .ge 73, 3) := dk_156 0 73 (dk_at dksX1_twins_6 15 rfl rfl)
theorem dX1_twins_158 : decode cX1_twins 158 = .ok (.aload_n 0, 1) := dk_42 (dk_at dksX1_twins_6 18 rfl rfl)
theorem dX1_twins_159 : decode cX1_twins 159 = .ok (.iload 10, 2) := dk_21 10 (dk_at dksX1_twins_6 19 rfl rfl)
theorem dX1_twins_161 : decode cX1_twins 161 = .ok (.iload 5, 2) := dk_21 5 (dk_at dksX1_twins_6 21 rfl rfl)
theorem dX1_twins_163 : decode cX1_twins 163 = .ok (.invokevirtual 298, 3) := dk_182 1 42 (dk_at dksX1_twins_7 0 rfl rfl)
theorem dX1_twins_166 : decode cX1_twins 166 = .ok (.aload_n 0, 1) := dk_42 (dk_at dksX1_twins_7 3 rfl rfl)
theorem dX1_twins_167 : decode cX1_twins 167 = .ok (.iload 5, 2) := dk_21 5 (dk_at dksX1_twins_7 4 rfl rfl)
theorem dX1_twins_169 : decode cX1_twins 169 = .ok (.iload_n 2, 1) := dk_28 (dk_at dksX1_twins_7 6 rfl rfl)
theorem dX1_twins_170 : decode cX1_twins 170 = .ok (.iload 8, 2) := dk_21 8 (dk_at dksX1_twins_7 7 rfl rfl)
theorem dX1_twins_172 : decode cX1_twins 172 = .ok (.invokevirtual 301, 3) := dk_182 1 45 (dk_at dksX1_twins_7 9 rfl rfl)
theorem dX1_twins_175 : decode cX1_twins 175 = .ok (.ifCond .eq 47, 3) := dk_153 0 47 (dk_at dksX1_twins_7 12 rfl rfl)
theorem dX1_twins_178 : decode cX1_twins 178 = .ok (.aload_n 0, 1) := dk_42 (dk_at dksX1_twins_7 15 rfl rfl)
theorem dX1_twins_179 : decode cX1_twins 179 = .ok (.iload 5, 2) := dk_21 5 (dk_at dksX1_twins_7 16 rfl rfl)
theorem dX1_twins_181 : decode cX1_twins 181 = .ok (.putfield 151, 3) := dk_181 0 151 (dk_at dksX1_twins_7 18 rfl rfl)
theorem dX1_twins_184 : decode cX1_twins 184 = .ok (.iconst 0, 1) := dk_3 (dk_at dksX1_twins_7 21 rfl rfl)
theorem dX1_twins_185 : decode cX1_twins 185 = .ok (.istore 11, 2) := dk_54 11 (dk_at dksX1_twins_7 22 rfl rfl)
theorem dX1_twins_187 : decode cX1_twins 187 = .ok (.iload 11, 2) := dk_21 11 (dk_at dksX1_twins_8 0 rfl rfl)
theorem dX1_twins_189 : decode cX1_twins 189 = .ok (.iload 5, 2) := dk_21 5 (dk_at dksX1_twins_8 2 rfl rfl)
theorem dX1_twins_191 : decode cX1_twins 191 = .ok (.if_icmp .ge 28, 3) := dk_162 0 28 (dk_at dksX1_twins_8 4 rfl rfl)
theorem dX1_twins_194 : decode cX1_twins 194 = .ok (.iload 9, 2) := dk_21 9 (dk_at dksX1_twins_8 7 rfl rfl)
theorem dX1_twins_196 : decode cX1_twins 196 = .ok (.ifCond .ne 23, 3) := dk_154 0 23 (dk_at dksX1_twins_8 9 rfl rfl)
theorem dX1_twins_199 : decode cX1_twins 199 = .ok (.aload_n 0, 1) := dk_42 (dk_at dksX1_twins_8 12 rfl rfl)
theorem dX1_twins_200 : decode cX1_twins 200 = .ok (.getfield 44, 3) := dk_180 0 44 (dk_at dksX1_twins_8 13 rfl rfl)
theorem dX1_twins_203 : decode cX1_twins 203 = .ok (.iload 11, 2) := dk_21 11 (dk_at dksX1_twins_8 16 rfl rfl)
theorem dX1_twins_205 : decode cX1_twins 205 = .ok (.aload_n 0, 1) := dk_42 (dk_at dksX1_twins_8 18 rfl rfl)
theorem dX1_twins_206 : decode cX1_twins 206 = .ok (.getfield 82, 3) := dk_180 0 82 (dk_at dksX1_twins_8 19 rfl rfl)
theorem dX1_twins_209 : decode cX1_twins 209 = .ok (.iload 11, 2) := dk_21 11 (dk_at dksX1_twins_8 22 rfl rfl)
theorem dX1_twins_211 : decode cX1_twins 211 = .ok (.iaload, 1) := dk_46 (dk_at dksX1_twins_9 0 rfl rfl)
theorem dX1_twins_212 : decode cX1_twins 212 = .ok (.iastore, 1) := dk_79 (dk_at dksX1_twins_9 1 rfl rfl)
theorem dX1_twins_213 : decode cX1_twins 213 = .ok (.iinc 11 1, 3) := dk_132 11 1 (dk_at dksX1_twins_9 2 rfl rfl)
theorem dX1_twins_216 : decode cX1_twins 216 = .ok (.goto (-29), 3) := dk_167 255 227 (dk_at dksX1_twins_9 5 rfl rfl)
theorem dX1_twins_219 : decode cX1_twins 219 = .ok (.iinc 9 1, 3) := dk_132 9 1 (dk_at dksX1_twins_9 8 rfl rfl)
theorem dX1_twins_222 : decode cX1_twins 222 = .ok (.iinc 10 1, 3) := dk_132 10 1 (dk_at dksX1_twins_9 11 rfl rfl)
theorem dX1_twins_225 : decode cX1_twins 225 = .ok (.goto (-76), 3) := dk_167 255 180 (dk_at dksX1_twins_9 14 rfl rfl)
theorem dX1_twins_228 : decode cX1_twins 228 = .ok (.aload_n 0, 1) := dk_42 (dk_at dksX1_twins_9 17 rfl rfl)
theorem dX1_twins_229 : decode cX1_twins 229 = .ok (.iload 5, 2) := dk_21 5 (dk_at dksX1_twins_9 18 rfl rfl)
theorem dX1_twins_231 : decode cX1_twins 231 = .ok (.putfield 151, 3) := dk_181 0 151 (dk_at dksX1_twins_9 20 rfl rfl)
theorem dX1_twins_234 : decode cX1_twins 234 = .ok (.aload_n 0, 1) := dk_42 (dk_at dksX1_twins_9 23 rfl rfl)
theorem dX1_twins_235 : decode cX1_twins 235 = .ok (.iload_n 3, 1) := dk_29 (dk_at dksX1_twins_10 0 rfl rfl)
theorem dX1_twins_236 : decode cX1_twins 236 = .ok (.invokevirtual 214, 3) := dk_182 0 214 (dk_at dksX1_twins_10 1 rfl rfl)
theorem dX1_twins_239 : decode cX1_twins 239 = .ok (.iload 9, 2) := dk_21 9 (dk_at dksX1_twins_10 4 rfl rfl)
theorem dX1_twins_241 : decode cX1_twins 241 = .ok (.ireturn, 1) := dk_172 (dk_at dksX1_twins_10 6 rfl rfl)
abbrev cX1_oftenIn : ByteArray := prog_8_method_90_code
def yX1_oftenIn : MethodName := ⟨RX1, "oftenIn", "(III)J"⟩
def dkwX1_oftenIn_5 : List UInt8 := [47, 173]
abbrev dktX1_oftenIn_5 : List UInt8 := dkwX1_oftenIn_5 ++ []
def dkwX1_oftenIn_4 : List UInt8 := [42, 180, 0, 110, 108, 54, 5, 132, 6, 255, 167, 255, 199, 132, 4, 1, 167, 255, 181, 42, 180, 0, 103, 29]
abbrev dktX1_oftenIn_4 : List UInt8 := dkwX1_oftenIn_4 ++ dktX1_oftenIn_5
def dkwX1_oftenIn_3 : List UInt8 := [180, 0, 110, 112, 160, 0, 15, 42, 180, 0, 103, 21, 6, 4, 100, 47, 167, 0, 4, 9, 97, 80, 21, 5]
abbrev dktX1_oftenIn_3 : List UInt8 := dkwX1_oftenIn_3 ++ dktX1_oftenIn_4
def dkwX1_oftenIn_2 : List UInt8 := [21, 6, 158, 0, 58, 42, 180, 0, 103, 21, 6, 92, 47, 42, 180, 0, 82, 21, 4, 46, 21, 5, 42]
abbrev dktX1_oftenIn_2 : List UInt8 := dkwX1_oftenIn_2 ++ dktX1_oftenIn_3
def dkwX1_oftenIn_1 : List UInt8 := [9, 80, 132, 4, 1, 167, 255, 230, 3, 54, 4, 21, 4, 27, 162, 0, 75, 28, 54, 5, 29, 54, 6]
abbrev dktX1_oftenIn_1 : List UInt8 := dkwX1_oftenIn_1 ++ dktX1_oftenIn_2
def dkwX1_oftenIn_0 : List UInt8 := [3, 54, 4, 21, 4, 29, 163, 0, 26, 42, 180, 0, 103, 21, 4, 21, 4, 154, 0, 7, 10, 167, 0, 4]
abbrev dktX1_oftenIn_0 : List UInt8 := dkwX1_oftenIn_0 ++ dktX1_oftenIn_1
theorem dksX1_oftenIn_0 : cX1_oftenIn.data.toList.drop 0 = dktX1_oftenIn_0 := by decide +kernel
theorem dksX1_oftenIn_1 : cX1_oftenIn.data.toList.drop 24 = dktX1_oftenIn_1 := dk_seg dksX1_oftenIn_0 24 rfl rfl
theorem dksX1_oftenIn_2 : cX1_oftenIn.data.toList.drop 47 = dktX1_oftenIn_2 := dk_seg dksX1_oftenIn_1 23 rfl rfl
theorem dksX1_oftenIn_3 : cX1_oftenIn.data.toList.drop 70 = dktX1_oftenIn_3 := dk_seg dksX1_oftenIn_2 23 rfl rfl
theorem dksX1_oftenIn_4 : cX1_oftenIn.data.toList.drop 94 = dktX1_oftenIn_4 := dk_seg dksX1_oftenIn_3 24 rfl rfl
theorem dksX1_oftenIn_5 : cX1_oftenIn.data.toList.drop 118 = dktX1_oftenIn_5 := dk_seg dksX1_oftenIn_4 24 rfl rfl
theorem dX1_oftenIn_0 : decode cX1_oftenIn 0 = .ok (.iconst 0, 1) := dk_3 (dk_at dksX1_oftenIn_0 0 rfl rfl)
theorem dX1_oftenIn_1 : decode cX1_oftenIn 1 = .ok (.istore 4, 2) := dk_54 4 (dk_at dksX1_oftenIn_0 1 rfl rfl)
theorem dX1_oftenIn_3 : decode cX1_oftenIn 3 = .ok (.iload 4, 2) := dk_21 4 (dk_at dksX1_oftenIn_0 3 rfl rfl)
theorem dX1_oftenIn_5 : decode cX1_oftenIn 5 = .ok (.iload_n 3, 1) := dk_29 (dk_at dksX1_oftenIn_0 5 rfl rfl)
theorem dX1_oftenIn_6 : decode cX1_oftenIn 6 = .ok (.if_icmp .gt 26, 3) := dk_163 0 26 (dk_at dksX1_oftenIn_0 6 rfl rfl)
theorem dX1_oftenIn_9 : decode cX1_oftenIn 9 = .ok (.aload_n 0, 1) := dk_42 (dk_at dksX1_oftenIn_0 9 rfl rfl)
theorem dX1_oftenIn_10 : decode cX1_oftenIn 10 = .ok (.getfield 103, 3) := dk_180 0 103 (dk_at dksX1_oftenIn_0 10 rfl rfl)
theorem dX1_oftenIn_13 : decode cX1_oftenIn 13 = .ok (.iload 4, 2) := dk_21 4 (dk_at dksX1_oftenIn_0 13 rfl rfl)
theorem dX1_oftenIn_15 : decode cX1_oftenIn 15 = .ok (.iload 4, 2) := dk_21 4 (dk_at dksX1_oftenIn_0 15 rfl rfl)
theorem dX1_oftenIn_17 : decode cX1_oftenIn 17 = .ok (.ifCond .ne 7, 3) := dk_154 0 7 (dk_at dksX1_oftenIn_0 17 rfl rfl)
theorem dX1_oftenIn_20 : decode cX1_oftenIn 20 = .ok (.lconst 1, 1) := dk_10 (dk_at dksX1_oftenIn_0 20 rfl rfl)
theorem dX1_oftenIn_21 : decode cX1_oftenIn 21 = .ok (.goto 4, 3) := dk_167 0 4 (dk_at dksX1_oftenIn_0 21 rfl rfl)
theorem dX1_oftenIn_24 : decode cX1_oftenIn 24 = .ok (.lconst 0, 1) := dk_9 (dk_at dksX1_oftenIn_1 0 rfl rfl)
theorem dX1_oftenIn_25 : decode cX1_oftenIn 25 = .ok (.lastore, 1) := dk_80 (dk_at dksX1_oftenIn_1 1 rfl rfl)
theorem dX1_oftenIn_26 : decode cX1_oftenIn 26 = .ok (.iinc 4 1, 3) := dk_132 4 1 (dk_at dksX1_oftenIn_1 2 rfl rfl)
theorem dX1_oftenIn_29 : decode cX1_oftenIn 29 = .ok (.goto (-26), 3) := dk_167 255 230 (dk_at dksX1_oftenIn_1 5 rfl rfl)
theorem dX1_oftenIn_32 : decode cX1_oftenIn 32 = .ok (.iconst 0, 1) := dk_3 (dk_at dksX1_oftenIn_1 8 rfl rfl)
theorem dX1_oftenIn_33 : decode cX1_oftenIn 33 = .ok (.istore 4, 2) := dk_54 4 (dk_at dksX1_oftenIn_1 9 rfl rfl)
theorem dX1_oftenIn_35 : decode cX1_oftenIn 35 = .ok (.iload 4, 2) := dk_21 4 (dk_at dksX1_oftenIn_1 11 rfl rfl)
theorem dX1_oftenIn_37 : decode cX1_oftenIn 37 = .ok (.iload_n 1, 1) := dk_27 (dk_at dksX1_oftenIn_1 13 rfl rfl)
theorem dX1_oftenIn_38 : decode cX1_oftenIn 38 = .ok (.if_icmp .ge 75, 3) := dk_162 0 75 (dk_at dksX1_oftenIn_1 14 rfl rfl)
theorem dX1_oftenIn_41 : decode cX1_oftenIn 41 = .ok (.iload_n 2, 1) := dk_28 (dk_at dksX1_oftenIn_1 17 rfl rfl)
theorem dX1_oftenIn_42 : decode cX1_oftenIn 42 = .ok (.istore 5, 2) := dk_54 5 (dk_at dksX1_oftenIn_1 18 rfl rfl)
theorem dX1_oftenIn_44 : decode cX1_oftenIn 44 = .ok (.iload_n 3, 1) := dk_29 (dk_at dksX1_oftenIn_1 20 rfl rfl)
theorem dX1_oftenIn_45 : decode cX1_oftenIn 45 = .ok (.istore 6, 2) := dk_54 6 (dk_at dksX1_oftenIn_1 21 rfl rfl)
theorem dX1_oftenIn_47 : decode cX1_oftenIn 47 = .ok (.iload 6, 2) := dk_21 6 (dk_at dksX1_oftenIn_2 0 rfl rfl)
theorem dX1_oftenIn_49 : decode cX1_oftenIn 49 = .ok (.ifCond .le 58, 3) := dk_158 0 58 (dk_at dksX1_oftenIn_2 2 rfl rfl)
theorem dX1_oftenIn_52 : decode cX1_oftenIn 52 = .ok (.aload_n 0, 1) := dk_42 (dk_at dksX1_oftenIn_2 5 rfl rfl)
theorem dX1_oftenIn_53 : decode cX1_oftenIn 53 = .ok (.getfield 103, 3) := dk_180 0 103 (dk_at dksX1_oftenIn_2 6 rfl rfl)
theorem dX1_oftenIn_56 : decode cX1_oftenIn 56 = .ok (.iload 6, 2) := dk_21 6 (dk_at dksX1_oftenIn_2 9 rfl rfl)
theorem dX1_oftenIn_58 : decode cX1_oftenIn 58 = .ok (.dup2, 1) := dk_92 (dk_at dksX1_oftenIn_2 11 rfl rfl)
theorem dX1_oftenIn_59 : decode cX1_oftenIn 59 = .ok (.laload, 1) := dk_47 (dk_at dksX1_oftenIn_2 12 rfl rfl)
theorem dX1_oftenIn_60 : decode cX1_oftenIn 60 = .ok (.aload_n 0, 1) := dk_42 (dk_at dksX1_oftenIn_2 13 rfl rfl)
theorem dX1_oftenIn_61 : decode cX1_oftenIn 61 = .ok (.getfield 82, 3) := dk_180 0 82 (dk_at dksX1_oftenIn_2 14 rfl rfl)
theorem dX1_oftenIn_64 : decode cX1_oftenIn 64 = .ok (.iload 4, 2) := dk_21 4 (dk_at dksX1_oftenIn_2 17 rfl rfl)
theorem dX1_oftenIn_66 : decode cX1_oftenIn 66 = .ok (.iaload, 1) := dk_46 (dk_at dksX1_oftenIn_2 19 rfl rfl)
theorem dX1_oftenIn_67 : decode cX1_oftenIn 67 = .ok (.iload 5, 2) := dk_21 5 (dk_at dksX1_oftenIn_2 20 rfl rfl)
theorem dX1_oftenIn_69 : decode cX1_oftenIn 69 = .ok (.aload_n 0, 1) := dk_42 (dk_at dksX1_oftenIn_2 22 rfl rfl)
theorem dX1_oftenIn_70 : decode cX1_oftenIn 70 = .ok (.getfield 110, 3) := dk_180 0 110 (dk_at dksX1_oftenIn_3 0 rfl rfl)
theorem dX1_oftenIn_73 : decode cX1_oftenIn 73 = .ok (.irem, 1) := dk_112 (dk_at dksX1_oftenIn_3 3 rfl rfl)
theorem dX1_oftenIn_74 : decode cX1_oftenIn 74 = .ok (.if_icmp .ne 15, 3) := dk_160 0 15 (dk_at dksX1_oftenIn_3 4 rfl rfl)
theorem dX1_oftenIn_77 : decode cX1_oftenIn 77 = .ok (.aload_n 0, 1) := dk_42 (dk_at dksX1_oftenIn_3 7 rfl rfl)
theorem dX1_oftenIn_78 : decode cX1_oftenIn 78 = .ok (.getfield 103, 3) := dk_180 0 103 (dk_at dksX1_oftenIn_3 8 rfl rfl)
theorem dX1_oftenIn_81 : decode cX1_oftenIn 81 = .ok (.iload 6, 2) := dk_21 6 (dk_at dksX1_oftenIn_3 11 rfl rfl)
theorem dX1_oftenIn_83 : decode cX1_oftenIn 83 = .ok (.iconst 1, 1) := dk_4 (dk_at dksX1_oftenIn_3 13 rfl rfl)
theorem dX1_oftenIn_84 : decode cX1_oftenIn 84 = .ok (.isub, 1) := dk_100 (dk_at dksX1_oftenIn_3 14 rfl rfl)
theorem dX1_oftenIn_85 : decode cX1_oftenIn 85 = .ok (.laload, 1) := dk_47 (dk_at dksX1_oftenIn_3 15 rfl rfl)
theorem dX1_oftenIn_86 : decode cX1_oftenIn 86 = .ok (.goto 4, 3) := dk_167 0 4 (dk_at dksX1_oftenIn_3 16 rfl rfl)
theorem dX1_oftenIn_89 : decode cX1_oftenIn 89 = .ok (.lconst 0, 1) := dk_9 (dk_at dksX1_oftenIn_3 19 rfl rfl)
theorem dX1_oftenIn_90 : decode cX1_oftenIn 90 = .ok (.ladd, 1) := dk_97 (dk_at dksX1_oftenIn_3 20 rfl rfl)
theorem dX1_oftenIn_91 : decode cX1_oftenIn 91 = .ok (.lastore, 1) := dk_80 (dk_at dksX1_oftenIn_3 21 rfl rfl)
theorem dX1_oftenIn_92 : decode cX1_oftenIn 92 = .ok (.iload 5, 2) := dk_21 5 (dk_at dksX1_oftenIn_3 22 rfl rfl)
theorem dX1_oftenIn_94 : decode cX1_oftenIn 94 = .ok (.aload_n 0, 1) := dk_42 (dk_at dksX1_oftenIn_4 0 rfl rfl)
theorem dX1_oftenIn_95 : decode cX1_oftenIn 95 = .ok (.getfield 110, 3) := dk_180 0 110 (dk_at dksX1_oftenIn_4 1 rfl rfl)
theorem dX1_oftenIn_98 : decode cX1_oftenIn 98 = .ok (.idiv, 1) := dk_108 (dk_at dksX1_oftenIn_4 4 rfl rfl)
theorem dX1_oftenIn_99 : decode cX1_oftenIn 99 = .ok (.istore 5, 2) := dk_54 5 (dk_at dksX1_oftenIn_4 5 rfl rfl)
theorem dX1_oftenIn_101 : decode cX1_oftenIn 101 = .ok (.iinc 6 (-1), 3) := dk_132 6 255 (dk_at dksX1_oftenIn_4 7 rfl rfl)
theorem dX1_oftenIn_104 : decode cX1_oftenIn 104 = .ok (.goto (-57), 3) := dk_167 255 199 (dk_at dksX1_oftenIn_4 10 rfl rfl)
theorem dX1_oftenIn_107 : decode cX1_oftenIn 107 = .ok (.iinc 4 1, 3) := dk_132 4 1 (dk_at dksX1_oftenIn_4 13 rfl rfl)
theorem dX1_oftenIn_110 : decode cX1_oftenIn 110 = .ok (.goto (-75), 3) := dk_167 255 181 (dk_at dksX1_oftenIn_4 16 rfl rfl)
theorem dX1_oftenIn_113 : decode cX1_oftenIn 113 = .ok (.aload_n 0, 1) := dk_42 (dk_at dksX1_oftenIn_4 19 rfl rfl)
theorem dX1_oftenIn_114 : decode cX1_oftenIn 114 = .ok (.getfield 103, 3) := dk_180 0 103 (dk_at dksX1_oftenIn_4 20 rfl rfl)
theorem dX1_oftenIn_117 : decode cX1_oftenIn 117 = .ok (.iload_n 3, 1) := dk_29 (dk_at dksX1_oftenIn_4 23 rfl rfl)
theorem dX1_oftenIn_118 : decode cX1_oftenIn 118 = .ok (.laload, 1) := dk_47 (dk_at dksX1_oftenIn_5 0 rfl rfl)
theorem dX1_oftenIn_119 : decode cX1_oftenIn 119 = .ok (.lreturn, 1) := dk_173 (dk_at dksX1_oftenIn_5 1 rfl rfl)
abbrev cX1_layOtherBy : ByteArray := prog_8_method_92_code
def yX1_layOtherBy : MethodName := ⟨RX1, "layOtherBy", "(II)V"⟩
def dkwX1_layOtherBy_1 : List UInt8 := [79, 29, 42, 180, 0, 110, 108, 62, 132, 4, 255, 167, 255, 228, 177]
abbrev dktX1_layOtherBy_1 : List UInt8 := dkwX1_layOtherBy_1 ++ []
def dkwX1_layOtherBy_0 : List UInt8 := [27, 62, 28, 4, 100, 54, 4, 21, 4, 155, 0, 29, 42, 180, 0, 82, 21, 4, 29, 42, 180, 0, 110, 112]
abbrev dktX1_layOtherBy_0 : List UInt8 := dkwX1_layOtherBy_0 ++ dktX1_layOtherBy_1
theorem dksX1_layOtherBy_0 : cX1_layOtherBy.data.toList.drop 0 = dktX1_layOtherBy_0 := by decide +kernel
theorem dksX1_layOtherBy_1 : cX1_layOtherBy.data.toList.drop 24 = dktX1_layOtherBy_1 := dk_seg dksX1_layOtherBy_0 24 rfl rfl
theorem dX1_layOtherBy_0 : decode cX1_layOtherBy 0 = .ok (.iload_n 1, 1) := dk_27 (dk_at dksX1_layOtherBy_0 0 rfl rfl)
theorem dX1_layOtherBy_1 : decode cX1_layOtherBy 1 = .ok (.istore_n 3, 1) := dk_62 (dk_at dksX1_layOtherBy_0 1 rfl rfl)
theorem dX1_layOtherBy_2 : decode cX1_layOtherBy 2 = .ok (.iload_n 2, 1) := dk_28 (dk_at dksX1_layOtherBy_0 2 rfl rfl)
theorem dX1_layOtherBy_3 : decode cX1_layOtherBy 3 = .ok (.iconst 1, 1) := dk_4 (dk_at dksX1_layOtherBy_0 3 rfl rfl)
theorem dX1_layOtherBy_4 : decode cX1_layOtherBy 4 = .ok (.isub, 1) := dk_100 (dk_at dksX1_layOtherBy_0 4 rfl rfl)
theorem dX1_layOtherBy_5 : decode cX1_layOtherBy 5 = .ok (.istore 4, 2) := dk_54 4 (dk_at dksX1_layOtherBy_0 5 rfl rfl)
theorem dX1_layOtherBy_7 : decode cX1_layOtherBy 7 = .ok (.iload 4, 2) := dk_21 4 (dk_at dksX1_layOtherBy_0 7 rfl rfl)
theorem dX1_layOtherBy_9 : decode cX1_layOtherBy 9 = .ok (.ifCond .lt 29, 3) := dk_155 0 29 (dk_at dksX1_layOtherBy_0 9 rfl rfl)
theorem dX1_layOtherBy_12 : decode cX1_layOtherBy 12 = .ok (.aload_n 0, 1) := dk_42 (dk_at dksX1_layOtherBy_0 12 rfl rfl)
theorem dX1_layOtherBy_13 : decode cX1_layOtherBy 13 = .ok (.getfield 82, 3) := dk_180 0 82 (dk_at dksX1_layOtherBy_0 13 rfl rfl)
theorem dX1_layOtherBy_16 : decode cX1_layOtherBy 16 = .ok (.iload 4, 2) := dk_21 4 (dk_at dksX1_layOtherBy_0 16 rfl rfl)
theorem dX1_layOtherBy_18 : decode cX1_layOtherBy 18 = .ok (.iload_n 3, 1) := dk_29 (dk_at dksX1_layOtherBy_0 18 rfl rfl)
theorem dX1_layOtherBy_19 : decode cX1_layOtherBy 19 = .ok (.aload_n 0, 1) := dk_42 (dk_at dksX1_layOtherBy_0 19 rfl rfl)
theorem dX1_layOtherBy_20 : decode cX1_layOtherBy 20 = .ok (.getfield 110, 3) := dk_180 0 110 (dk_at dksX1_layOtherBy_0 20 rfl rfl)
theorem dX1_layOtherBy_23 : decode cX1_layOtherBy 23 = .ok (.irem, 1) := dk_112 (dk_at dksX1_layOtherBy_0 23 rfl rfl)
theorem dX1_layOtherBy_24 : decode cX1_layOtherBy 24 = .ok (.iastore, 1) := dk_79 (dk_at dksX1_layOtherBy_1 0 rfl rfl)
theorem dX1_layOtherBy_25 : decode cX1_layOtherBy 25 = .ok (.iload_n 3, 1) := dk_29 (dk_at dksX1_layOtherBy_1 1 rfl rfl)
theorem dX1_layOtherBy_26 : decode cX1_layOtherBy 26 = .ok (.aload_n 0, 1) := dk_42 (dk_at dksX1_layOtherBy_1 2 rfl rfl)
theorem dX1_layOtherBy_27 : decode cX1_layOtherBy 27 = .ok (.getfield 110, 3) := dk_180 0 110 (dk_at dksX1_layOtherBy_1 3 rfl rfl)
theorem dX1_layOtherBy_30 : decode cX1_layOtherBy 30 = .ok (.idiv, 1) := dk_108 (dk_at dksX1_layOtherBy_1 6 rfl rfl)
theorem dX1_layOtherBy_31 : decode cX1_layOtherBy 31 = .ok (.istore_n 3, 1) := dk_62 (dk_at dksX1_layOtherBy_1 7 rfl rfl)
theorem dX1_layOtherBy_32 : decode cX1_layOtherBy 32 = .ok (.iinc 4 (-1), 3) := dk_132 4 255 (dk_at dksX1_layOtherBy_1 8 rfl rfl)
theorem dX1_layOtherBy_35 : decode cX1_layOtherBy 35 = .ok (.goto (-28), 3) := dk_167 255 228 (dk_at dksX1_layOtherBy_1 11 rfl rfl)
theorem dX1_layOtherBy_38 : decode cX1_layOtherBy 38 = .ok (.return_, 1) := dk_177 (dk_at dksX1_layOtherBy_1 14 rfl rfl)
abbrev cX1_isTwin : ByteArray := prog_8_method_91_code
def yX1_isTwin : MethodName := ⟨RX1, "isTwin", "(III)Z"⟩
def dkwX1_isTwin_2 : List UInt8 := [167, 255, 216, 21, 4, 172]
abbrev dktX1_isTwin_2 : List UInt8 := dkwX1_isTwin_2 ++ []
def dkwX1_isTwin_1 : List UInt8 := [182, 1, 36, 42, 180, 0, 97, 21, 5, 47, 148, 154, 0, 7, 4, 167, 0, 4, 3, 54, 4, 132, 5, 1]
abbrev dktX1_isTwin_1 : List UInt8 := dkwX1_isTwin_1 ++ dktX1_isTwin_2
def dkwX1_isTwin_0 : List UInt8 := [4, 54, 4, 3, 54, 5, 21, 5, 29, 162, 0, 40, 21, 4, 153, 0, 35, 42, 27, 21, 5, 28]
abbrev dktX1_isTwin_0 : List UInt8 := dkwX1_isTwin_0 ++ dktX1_isTwin_1
theorem dksX1_isTwin_0 : cX1_isTwin.data.toList.drop 0 = dktX1_isTwin_0 := by decide +kernel
theorem dksX1_isTwin_1 : cX1_isTwin.data.toList.drop 22 = dktX1_isTwin_1 := dk_seg dksX1_isTwin_0 22 rfl rfl
theorem dksX1_isTwin_2 : cX1_isTwin.data.toList.drop 46 = dktX1_isTwin_2 := dk_seg dksX1_isTwin_1 24 rfl rfl
theorem dX1_isTwin_0 : decode cX1_isTwin 0 = .ok (.iconst 1, 1) := dk_4 (dk_at dksX1_isTwin_0 0 rfl rfl)
theorem dX1_isTwin_1 : decode cX1_isTwin 1 = .ok (.istore 4, 2) := dk_54 4 (dk_at dksX1_isTwin_0 1 rfl rfl)
theorem dX1_isTwin_3 : decode cX1_isTwin 3 = .ok (.iconst 0, 1) := dk_3 (dk_at dksX1_isTwin_0 3 rfl rfl)
theorem dX1_isTwin_4 : decode cX1_isTwin 4 = .ok (.istore 5, 2) := dk_54 5 (dk_at dksX1_isTwin_0 4 rfl rfl)
theorem dX1_isTwin_6 : decode cX1_isTwin 6 = .ok (.iload 5, 2) := dk_21 5 (dk_at dksX1_isTwin_0 6 rfl rfl)
theorem dX1_isTwin_8 : decode cX1_isTwin 8 = .ok (.iload_n 3, 1) := dk_29 (dk_at dksX1_isTwin_0 8 rfl rfl)
theorem dX1_isTwin_9 : decode cX1_isTwin 9 = .ok (.if_icmp .ge 40, 3) := dk_162 0 40 (dk_at dksX1_isTwin_0 9 rfl rfl)
theorem dX1_isTwin_12 : decode cX1_isTwin 12 = .ok (.iload 4, 2) := dk_21 4 (dk_at dksX1_isTwin_0 12 rfl rfl)
theorem dX1_isTwin_14 : decode cX1_isTwin 14 = .ok (.ifCond .eq 35, 3) := dk_153 0 35 (dk_at dksX1_isTwin_0 14 rfl rfl)
theorem dX1_isTwin_17 : decode cX1_isTwin 17 = .ok (.aload_n 0, 1) := dk_42 (dk_at dksX1_isTwin_0 17 rfl rfl)
theorem dX1_isTwin_18 : decode cX1_isTwin 18 = .ok (.iload_n 1, 1) := dk_27 (dk_at dksX1_isTwin_0 18 rfl rfl)
theorem dX1_isTwin_19 : decode cX1_isTwin 19 = .ok (.iload 5, 2) := dk_21 5 (dk_at dksX1_isTwin_0 19 rfl rfl)
theorem dX1_isTwin_21 : decode cX1_isTwin 21 = .ok (.iload_n 2, 1) := dk_28 (dk_at dksX1_isTwin_0 21 rfl rfl)
theorem dX1_isTwin_22 : decode cX1_isTwin 22 = .ok (.invokevirtual 292, 3) := dk_182 1 36 (dk_at dksX1_isTwin_1 0 rfl rfl)
theorem dX1_isTwin_25 : decode cX1_isTwin 25 = .ok (.aload_n 0, 1) := dk_42 (dk_at dksX1_isTwin_1 3 rfl rfl)
theorem dX1_isTwin_26 : decode cX1_isTwin 26 = .ok (.getfield 97, 3) := dk_180 0 97 (dk_at dksX1_isTwin_1 4 rfl rfl)
theorem dX1_isTwin_29 : decode cX1_isTwin 29 = .ok (.iload 5, 2) := dk_21 5 (dk_at dksX1_isTwin_1 7 rfl rfl)
theorem dX1_isTwin_31 : decode cX1_isTwin 31 = .ok (.laload, 1) := dk_47 (dk_at dksX1_isTwin_1 9 rfl rfl)
theorem dX1_isTwin_32 : decode cX1_isTwin 32 = .ok (.lcmp, 1) := dk_148 (dk_at dksX1_isTwin_1 10 rfl rfl)
theorem dX1_isTwin_33 : decode cX1_isTwin 33 = .ok (.ifCond .ne 7, 3) := dk_154 0 7 (dk_at dksX1_isTwin_1 11 rfl rfl)
theorem dX1_isTwin_36 : decode cX1_isTwin 36 = .ok (.iconst 1, 1) := dk_4 (dk_at dksX1_isTwin_1 14 rfl rfl)
theorem dX1_isTwin_37 : decode cX1_isTwin 37 = .ok (.goto 4, 3) := dk_167 0 4 (dk_at dksX1_isTwin_1 15 rfl rfl)
theorem dX1_isTwin_40 : decode cX1_isTwin 40 = .ok (.iconst 0, 1) := dk_3 (dk_at dksX1_isTwin_1 18 rfl rfl)
theorem dX1_isTwin_41 : decode cX1_isTwin 41 = .ok (.istore 4, 2) := dk_54 4 (dk_at dksX1_isTwin_1 19 rfl rfl)
theorem dX1_isTwin_43 : decode cX1_isTwin 43 = .ok (.iinc 5 1, 3) := dk_132 5 1 (dk_at dksX1_isTwin_1 21 rfl rfl)
theorem dX1_isTwin_46 : decode cX1_isTwin 46 = .ok (.goto (-40), 3) := dk_167 255 216 (dk_at dksX1_isTwin_2 0 rfl rfl)
theorem dX1_isTwin_49 : decode cX1_isTwin 49 = .ok (.iload 4, 2) := dk_21 4 (dk_at dksX1_isTwin_2 3 rfl rfl)
theorem dX1_isTwin_51 : decode cX1_isTwin 51 = .ok (.ireturn, 1) := dk_172 (dk_at dksX1_isTwin_2 5 rfl rfl)
abbrev cX1_odds : ByteArray := prog_8_method_95_code
def yX1_odds : MethodName := ⟨RX1, "odds", "(II)I"⟩
def dkwX1_odds_2 : List UInt8 := [182, 0, 199, 42, 42, 180, 0, 53, 21, 5, 47, 21, 4, 21, 5, 184, 1, 48, 4, 182, 1, 52, 172]
abbrev dktX1_odds_2 : List UInt8 := dkwX1_odds_2 ++ []
def dkwX1_odds_1 : List UInt8 := [180, 0, 29, 28, 46, 54, 5, 21, 5, 21, 4, 164, 0, 9, 42, 7, 182, 0, 134, 172, 42, 27, 28]
abbrev dktX1_odds_1 : List UInt8 := dkwX1_odds_1 ++ dktX1_odds_2
def dkwX1_odds_0 : List UInt8 := [42, 4, 27, 28, 182, 0, 188, 62, 29, 156, 0, 5, 29, 172, 42, 180, 0, 29, 27, 46, 54, 4, 42]
abbrev dktX1_odds_0 : List UInt8 := dkwX1_odds_0 ++ dktX1_odds_1
theorem dksX1_odds_0 : cX1_odds.data.toList.drop 0 = dktX1_odds_0 := by decide +kernel
theorem dksX1_odds_1 : cX1_odds.data.toList.drop 23 = dktX1_odds_1 := dk_seg dksX1_odds_0 23 rfl rfl
theorem dksX1_odds_2 : cX1_odds.data.toList.drop 46 = dktX1_odds_2 := dk_seg dksX1_odds_1 23 rfl rfl
theorem dX1_odds_0 : decode cX1_odds 0 = .ok (.aload_n 0, 1) := dk_42 (dk_at dksX1_odds_0 0 rfl rfl)
theorem dX1_odds_1 : decode cX1_odds 1 = .ok (.iconst 1, 1) := dk_4 (dk_at dksX1_odds_0 1 rfl rfl)
theorem dX1_odds_2 : decode cX1_odds 2 = .ok (.iload_n 1, 1) := dk_27 (dk_at dksX1_odds_0 2 rfl rfl)
theorem dX1_odds_3 : decode cX1_odds 3 = .ok (.iload_n 2, 1) := dk_28 (dk_at dksX1_odds_0 3 rfl rfl)
theorem dX1_odds_4 : decode cX1_odds 4 = .ok (.invokevirtual 188, 3) := dk_182 0 188 (dk_at dksX1_odds_0 4 rfl rfl)
theorem dX1_odds_7 : decode cX1_odds 7 = .ok (.istore_n 3, 1) := dk_62 (dk_at dksX1_odds_0 7 rfl rfl)
theorem dX1_odds_8 : decode cX1_odds 8 = .ok (.iload_n 3, 1) := dk_29 (dk_at dksX1_odds_0 8 rfl rfl)
theorem dX1_odds_9 : decode cX1_odds 9 = .ok (.ifCond .ge 5, 3) := dk_156 0 5 (dk_at dksX1_odds_0 9 rfl rfl)
theorem dX1_odds_12 : decode cX1_odds 12 = .ok (.iload_n 3, 1) := dk_29 (dk_at dksX1_odds_0 12 rfl rfl)
theorem dX1_odds_13 : decode cX1_odds 13 = .ok (.ireturn, 1) := dk_172 (dk_at dksX1_odds_0 13 rfl rfl)
theorem dX1_odds_14 : decode cX1_odds 14 = .ok (.aload_n 0, 1) := dk_42 (dk_at dksX1_odds_0 14 rfl rfl)
theorem dX1_odds_15 : decode cX1_odds 15 = .ok (.getfield 29, 3) := dk_180 0 29 (dk_at dksX1_odds_0 15 rfl rfl)
theorem dX1_odds_18 : decode cX1_odds 18 = .ok (.iload_n 1, 1) := dk_27 (dk_at dksX1_odds_0 18 rfl rfl)
theorem dX1_odds_19 : decode cX1_odds 19 = .ok (.iaload, 1) := dk_46 (dk_at dksX1_odds_0 19 rfl rfl)
theorem dX1_odds_20 : decode cX1_odds 20 = .ok (.istore 4, 2) := dk_54 4 (dk_at dksX1_odds_0 20 rfl rfl)
theorem dX1_odds_22 : decode cX1_odds 22 = .ok (.aload_n 0, 1) := dk_42 (dk_at dksX1_odds_0 22 rfl rfl)
theorem dX1_odds_23 : decode cX1_odds 23 = .ok (.getfield 29, 3) := dk_180 0 29 (dk_at dksX1_odds_1 0 rfl rfl)
theorem dX1_odds_26 : decode cX1_odds 26 = .ok (.iload_n 2, 1) := dk_28 (dk_at dksX1_odds_1 3 rfl rfl)
theorem dX1_odds_27 : decode cX1_odds 27 = .ok (.iaload, 1) := dk_46 (dk_at dksX1_odds_1 4 rfl rfl)
theorem dX1_odds_28 : decode cX1_odds 28 = .ok (.istore 5, 2) := dk_54 5 (dk_at dksX1_odds_1 5 rfl rfl)
theorem dX1_odds_30 : decode cX1_odds 30 = .ok (.iload 5, 2) := dk_21 5 (dk_at dksX1_odds_1 7 rfl rfl)
theorem dX1_odds_32 : decode cX1_odds 32 = .ok (.iload 4, 2) := dk_21 4 (dk_at dksX1_odds_1 9 rfl rfl)
theorem dX1_odds_34 : decode cX1_odds 34 = .ok (.if_icmp .le 9, 3) := dk_164 0 9 (dk_at dksX1_odds_1 11 rfl rfl)
theorem dX1_odds_37 : decode cX1_odds 37 = .ok (.aload_n 0, 1) := dk_42 (dk_at dksX1_odds_1 14 rfl rfl)
theorem dX1_odds_38 : decode cX1_odds 38 = .ok (.iconst 4, 1) := dk_7 (dk_at dksX1_odds_1 15 rfl rfl)
theorem dX1_odds_39 : decode cX1_odds 39 = .ok (.invokevirtual 134, 3) := dk_182 0 134 (dk_at dksX1_odds_1 16 rfl rfl)
theorem dX1_odds_42 : decode cX1_odds 42 = .ok (.ireturn, 1) := dk_172 (dk_at dksX1_odds_1 19 rfl rfl)
theorem dX1_odds_43 : decode cX1_odds 43 = .ok (.aload_n 0, 1) := dk_42 (dk_at dksX1_odds_1 20 rfl rfl)
theorem dX1_odds_44 : decode cX1_odds 44 = .ok (.iload_n 1, 1) := dk_27 (dk_at dksX1_odds_1 21 rfl rfl)
theorem dX1_odds_45 : decode cX1_odds 45 = .ok (.iload_n 2, 1) := dk_28 (dk_at dksX1_odds_1 22 rfl rfl)
theorem dX1_odds_46 : decode cX1_odds 46 = .ok (.invokevirtual 199, 3) := dk_182 0 199 (dk_at dksX1_odds_2 0 rfl rfl)
theorem dX1_odds_49 : decode cX1_odds 49 = .ok (.aload_n 0, 1) := dk_42 (dk_at dksX1_odds_2 3 rfl rfl)
theorem dX1_odds_50 : decode cX1_odds 50 = .ok (.aload_n 0, 1) := dk_42 (dk_at dksX1_odds_2 4 rfl rfl)
theorem dX1_odds_51 : decode cX1_odds 51 = .ok (.getfield 53, 3) := dk_180 0 53 (dk_at dksX1_odds_2 5 rfl rfl)
theorem dX1_odds_54 : decode cX1_odds 54 = .ok (.iload 5, 2) := dk_21 5 (dk_at dksX1_odds_2 8 rfl rfl)
theorem dX1_odds_56 : decode cX1_odds 56 = .ok (.laload, 1) := dk_47 (dk_at dksX1_odds_2 10 rfl rfl)
theorem dX1_odds_57 : decode cX1_odds 57 = .ok (.iload 4, 2) := dk_21 4 (dk_at dksX1_odds_2 11 rfl rfl)
theorem dX1_odds_59 : decode cX1_odds 59 = .ok (.iload 5, 2) := dk_21 5 (dk_at dksX1_odds_2 13 rfl rfl)
theorem dX1_odds_61 : decode cX1_odds 61 = .ok (.invokestatic 304, 3) := dk_184 1 48 (dk_at dksX1_odds_2 15 rfl rfl)
theorem dX1_odds_64 : decode cX1_odds 64 = .ok (.iconst 1, 1) := dk_4 (dk_at dksX1_odds_2 18 rfl rfl)
theorem dX1_odds_65 : decode cX1_odds 65 = .ok (.invokevirtual 308, 3) := dk_182 1 52 (dk_at dksX1_odds_2 19 rfl rfl)
theorem dX1_odds_68 : decode cX1_odds 68 = .ok (.ireturn, 1) := dk_172 (dk_at dksX1_odds_2 22 rfl rfl)
abbrev cX1_chosen : ByteArray := prog_8_method_94_code
def yX1_chosen : MethodName := ⟨RX1, "chosen", "(II)J"⟩
def dkwX1_chosen_1 : List UInt8 := [65, 132, 4, 1, 167, 255, 233, 32, 173]
abbrev dktX1_chosen_1 : List UInt8 := dkwX1_chosen_1 ++ []
def dkwX1_chosen_0 : List UInt8 := [10, 65, 4, 54, 4, 21, 4, 27, 163, 0, 23, 32, 26, 21, 4, 100, 4, 96, 133, 105, 21, 4, 133, 109]
abbrev dktX1_chosen_0 : List UInt8 := dkwX1_chosen_0 ++ dktX1_chosen_1
theorem dksX1_chosen_0 : cX1_chosen.data.toList.drop 0 = dktX1_chosen_0 := by decide +kernel
theorem dksX1_chosen_1 : cX1_chosen.data.toList.drop 24 = dktX1_chosen_1 := dk_seg dksX1_chosen_0 24 rfl rfl
theorem dX1_chosen_0 : decode cX1_chosen 0 = .ok (.lconst 1, 1) := dk_10 (dk_at dksX1_chosen_0 0 rfl rfl)
theorem dX1_chosen_1 : decode cX1_chosen 1 = .ok (.lstore_n 2, 1) := dk_65 (dk_at dksX1_chosen_0 1 rfl rfl)
theorem dX1_chosen_2 : decode cX1_chosen 2 = .ok (.iconst 1, 1) := dk_4 (dk_at dksX1_chosen_0 2 rfl rfl)
theorem dX1_chosen_3 : decode cX1_chosen 3 = .ok (.istore 4, 2) := dk_54 4 (dk_at dksX1_chosen_0 3 rfl rfl)
theorem dX1_chosen_5 : decode cX1_chosen 5 = .ok (.iload 4, 2) := dk_21 4 (dk_at dksX1_chosen_0 5 rfl rfl)
theorem dX1_chosen_7 : decode cX1_chosen 7 = .ok (.iload_n 1, 1) := dk_27 (dk_at dksX1_chosen_0 7 rfl rfl)
theorem dX1_chosen_8 : decode cX1_chosen 8 = .ok (.if_icmp .gt 23, 3) := dk_163 0 23 (dk_at dksX1_chosen_0 8 rfl rfl)
theorem dX1_chosen_11 : decode cX1_chosen 11 = .ok (.lload_n 2, 1) := dk_32 (dk_at dksX1_chosen_0 11 rfl rfl)
theorem dX1_chosen_12 : decode cX1_chosen 12 = .ok (.iload_n 0, 1) := dk_26 (dk_at dksX1_chosen_0 12 rfl rfl)
theorem dX1_chosen_13 : decode cX1_chosen 13 = .ok (.iload 4, 2) := dk_21 4 (dk_at dksX1_chosen_0 13 rfl rfl)
theorem dX1_chosen_15 : decode cX1_chosen 15 = .ok (.isub, 1) := dk_100 (dk_at dksX1_chosen_0 15 rfl rfl)
theorem dX1_chosen_16 : decode cX1_chosen 16 = .ok (.iconst 1, 1) := dk_4 (dk_at dksX1_chosen_0 16 rfl rfl)
theorem dX1_chosen_17 : decode cX1_chosen 17 = .ok (.iadd, 1) := dk_96 (dk_at dksX1_chosen_0 17 rfl rfl)
theorem dX1_chosen_18 : decode cX1_chosen 18 = .ok (.i2l, 1) := dk_133 (dk_at dksX1_chosen_0 18 rfl rfl)
theorem dX1_chosen_19 : decode cX1_chosen 19 = .ok (.lmul, 1) := dk_105 (dk_at dksX1_chosen_0 19 rfl rfl)
theorem dX1_chosen_20 : decode cX1_chosen 20 = .ok (.iload 4, 2) := dk_21 4 (dk_at dksX1_chosen_0 20 rfl rfl)
theorem dX1_chosen_22 : decode cX1_chosen 22 = .ok (.i2l, 1) := dk_133 (dk_at dksX1_chosen_0 22 rfl rfl)
theorem dX1_chosen_23 : decode cX1_chosen 23 = .ok (.ldiv, 1) := dk_109 (dk_at dksX1_chosen_0 23 rfl rfl)
theorem dX1_chosen_24 : decode cX1_chosen 24 = .ok (.lstore_n 2, 1) := dk_65 (dk_at dksX1_chosen_1 0 rfl rfl)
theorem dX1_chosen_25 : decode cX1_chosen 25 = .ok (.iinc 4 1, 3) := dk_132 4 1 (dk_at dksX1_chosen_1 1 rfl rfl)
theorem dX1_chosen_28 : decode cX1_chosen 28 = .ok (.goto (-23), 3) := dk_167 255 233 (dk_at dksX1_chosen_1 4 rfl rfl)
theorem dX1_chosen_31 : decode cX1_chosen 31 = .ok (.lload_n 2, 1) := dk_32 (dk_at dksX1_chosen_1 7 rfl rfl)
theorem dX1_chosen_32 : decode cX1_chosen 32 = .ok (.lreturn, 1) := dk_173 (dk_at dksX1_chosen_1 8 rfl rfl)
abbrev cX1_fraction : ByteArray := prog_8_method_11_code
def yX1_fraction : MethodName := ⟨RX1, "fraction", "(JJI)I"⟩
def dkwX1_fraction_2 : List UInt8 := [21, 5, 172]
abbrev dktX1_fraction_2 : List UInt8 := dkwX1_fraction_2 ++ []
def dkwX1_fraction_1 : List UInt8 := [22, 10, 55, 8, 167, 255, 234, 42, 31, 22, 6, 109, 181, 0, 127, 42, 33, 22, 6, 109, 181, 0, 106]
abbrev dktX1_fraction_1 : List UInt8 := dkwX1_fraction_1 ++ dktX1_fraction_2
def dkwX1_fraction_0 : List UInt8 := [31, 55, 6, 33, 55, 8, 22, 8, 9, 148, 153, 0, 21, 22, 6, 22, 8, 113, 55, 10, 22, 8, 55, 6]
abbrev dktX1_fraction_0 : List UInt8 := dkwX1_fraction_0 ++ dktX1_fraction_1
theorem dksX1_fraction_0 : cX1_fraction.data.toList.drop 0 = dktX1_fraction_0 := by decide +kernel
theorem dksX1_fraction_1 : cX1_fraction.data.toList.drop 24 = dktX1_fraction_1 := dk_seg dksX1_fraction_0 24 rfl rfl
theorem dksX1_fraction_2 : cX1_fraction.data.toList.drop 47 = dktX1_fraction_2 := dk_seg dksX1_fraction_1 23 rfl rfl
theorem dX1_fraction_0 : decode cX1_fraction 0 = .ok (.lload_n 1, 1) := dk_31 (dk_at dksX1_fraction_0 0 rfl rfl)
theorem dX1_fraction_1 : decode cX1_fraction 1 = .ok (.lstore 6, 2) := dk_55 6 (dk_at dksX1_fraction_0 1 rfl rfl)
theorem dX1_fraction_3 : decode cX1_fraction 3 = .ok (.lload_n 3, 1) := dk_33 (dk_at dksX1_fraction_0 3 rfl rfl)
theorem dX1_fraction_4 : decode cX1_fraction 4 = .ok (.lstore 8, 2) := dk_55 8 (dk_at dksX1_fraction_0 4 rfl rfl)
theorem dX1_fraction_6 : decode cX1_fraction 6 = .ok (.lload 8, 2) := dk_22 8 (dk_at dksX1_fraction_0 6 rfl rfl)
theorem dX1_fraction_8 : decode cX1_fraction 8 = .ok (.lconst 0, 1) := dk_9 (dk_at dksX1_fraction_0 8 rfl rfl)
theorem dX1_fraction_9 : decode cX1_fraction 9 = .ok (.lcmp, 1) := dk_148 (dk_at dksX1_fraction_0 9 rfl rfl)
theorem dX1_fraction_10 : decode cX1_fraction 10 = .ok (.ifCond .eq 21, 3) := dk_153 0 21 (dk_at dksX1_fraction_0 10 rfl rfl)
theorem dX1_fraction_13 : decode cX1_fraction 13 = .ok (.lload 6, 2) := dk_22 6 (dk_at dksX1_fraction_0 13 rfl rfl)
theorem dX1_fraction_15 : decode cX1_fraction 15 = .ok (.lload 8, 2) := dk_22 8 (dk_at dksX1_fraction_0 15 rfl rfl)
theorem dX1_fraction_17 : decode cX1_fraction 17 = .ok (.lrem, 1) := dk_113 (dk_at dksX1_fraction_0 17 rfl rfl)
theorem dX1_fraction_18 : decode cX1_fraction 18 = .ok (.lstore 10, 2) := dk_55 10 (dk_at dksX1_fraction_0 18 rfl rfl)
theorem dX1_fraction_20 : decode cX1_fraction 20 = .ok (.lload 8, 2) := dk_22 8 (dk_at dksX1_fraction_0 20 rfl rfl)
theorem dX1_fraction_22 : decode cX1_fraction 22 = .ok (.lstore 6, 2) := dk_55 6 (dk_at dksX1_fraction_0 22 rfl rfl)
theorem dX1_fraction_24 : decode cX1_fraction 24 = .ok (.lload 10, 2) := dk_22 10 (dk_at dksX1_fraction_1 0 rfl rfl)
theorem dX1_fraction_26 : decode cX1_fraction 26 = .ok (.lstore 8, 2) := dk_55 8 (dk_at dksX1_fraction_1 2 rfl rfl)
theorem dX1_fraction_28 : decode cX1_fraction 28 = .ok (.goto (-22), 3) := dk_167 255 234 (dk_at dksX1_fraction_1 4 rfl rfl)
theorem dX1_fraction_31 : decode cX1_fraction 31 = .ok (.aload_n 0, 1) := dk_42 (dk_at dksX1_fraction_1 7 rfl rfl)
theorem dX1_fraction_32 : decode cX1_fraction 32 = .ok (.lload_n 1, 1) := dk_31 (dk_at dksX1_fraction_1 8 rfl rfl)
theorem dX1_fraction_33 : decode cX1_fraction 33 = .ok (.lload 6, 2) := dk_22 6 (dk_at dksX1_fraction_1 9 rfl rfl)
theorem dX1_fraction_35 : decode cX1_fraction 35 = .ok (.ldiv, 1) := dk_109 (dk_at dksX1_fraction_1 11 rfl rfl)
theorem dX1_fraction_36 : decode cX1_fraction 36 = .ok (.putfield 127, 3) := dk_181 0 127 (dk_at dksX1_fraction_1 12 rfl rfl)
theorem dX1_fraction_39 : decode cX1_fraction 39 = .ok (.aload_n 0, 1) := dk_42 (dk_at dksX1_fraction_1 15 rfl rfl)
theorem dX1_fraction_40 : decode cX1_fraction 40 = .ok (.lload_n 3, 1) := dk_33 (dk_at dksX1_fraction_1 16 rfl rfl)
theorem dX1_fraction_41 : decode cX1_fraction 41 = .ok (.lload 6, 2) := dk_22 6 (dk_at dksX1_fraction_1 17 rfl rfl)
theorem dX1_fraction_43 : decode cX1_fraction 43 = .ok (.ldiv, 1) := dk_109 (dk_at dksX1_fraction_1 19 rfl rfl)
theorem dX1_fraction_44 : decode cX1_fraction 44 = .ok (.putfield 106, 3) := dk_181 0 106 (dk_at dksX1_fraction_1 20 rfl rfl)
theorem dX1_fraction_47 : decode cX1_fraction 47 = .ok (.iload 5, 2) := dk_21 5 (dk_at dksX1_fraction_2 0 rfl rfl)
theorem dX1_fraction_49 : decode cX1_fraction 49 = .ok (.ireturn, 1) := dk_172 (dk_at dksX1_fraction_2 2 rfl rfl)
abbrev cX1_byChance : ByteArray := prog_8_method_96_code
def yX1_byChance : MethodName := ⟨RX1, "byChance", "(II)I"⟩
def dkwX1_byChance_3 : List UInt8 := [22, 4, 42, 180, 0, 110, 133, 28, 184, 0, 239, 4, 182, 1, 52, 172]
abbrev dktX1_byChance_3 : List UInt8 := dkwX1_byChance_3 ++ []
def dkwX1_byChance_2 : List UInt8 := [180, 0, 110, 4, 100, 133, 28, 21, 6, 100, 184, 0, 239, 105, 97, 55, 4, 132, 6, 1, 167, 255, 221, 42]
abbrev dktX1_byChance_2 : List UInt8 := dkwX1_byChance_2 ++ dktX1_byChance_3
def dkwX1_byChance_1 : List UInt8 := [180, 0, 29, 27, 46, 54, 6, 21, 6, 28, 163, 0, 35, 22, 4, 28, 21, 6, 184, 1, 48, 42]
abbrev dktX1_byChance_1 : List UInt8 := dkwX1_byChance_1 ++ dktX1_byChance_2
def dkwX1_byChance_0 : List UInt8 := [42, 28, 3, 16, 20, 184, 0, 117, 27, 182, 0, 192, 62, 29, 156, 0, 5, 29, 172, 9, 55, 4, 42]
abbrev dktX1_byChance_0 : List UInt8 := dkwX1_byChance_0 ++ dktX1_byChance_1
theorem dksX1_byChance_0 : cX1_byChance.data.toList.drop 0 = dktX1_byChance_0 := by decide +kernel
theorem dksX1_byChance_1 : cX1_byChance.data.toList.drop 23 = dktX1_byChance_1 := dk_seg dksX1_byChance_0 23 rfl rfl
theorem dksX1_byChance_2 : cX1_byChance.data.toList.drop 45 = dktX1_byChance_2 := dk_seg dksX1_byChance_1 22 rfl rfl
theorem dksX1_byChance_3 : cX1_byChance.data.toList.drop 69 = dktX1_byChance_3 := dk_seg dksX1_byChance_2 24 rfl rfl
theorem dX1_byChance_0 : decode cX1_byChance 0 = .ok (.aload_n 0, 1) := dk_42 (dk_at dksX1_byChance_0 0 rfl rfl)
theorem dX1_byChance_1 : decode cX1_byChance 1 = .ok (.iload_n 2, 1) := dk_28 (dk_at dksX1_byChance_0 1 rfl rfl)
theorem dX1_byChance_2 : decode cX1_byChance 2 = .ok (.iconst 0, 1) := dk_3 (dk_at dksX1_byChance_0 2 rfl rfl)
theorem dX1_byChance_3 : decode cX1_byChance 3 = .ok (.bipush 20, 2) := dk_16 20 (dk_at dksX1_byChance_0 3 rfl rfl)
theorem dX1_byChance_5 : decode cX1_byChance 5 = .ok (.invokestatic 117, 3) := dk_184 0 117 (dk_at dksX1_byChance_0 5 rfl rfl)
theorem dX1_byChance_8 : decode cX1_byChance 8 = .ok (.iload_n 1, 1) := dk_27 (dk_at dksX1_byChance_0 8 rfl rfl)
theorem dX1_byChance_9 : decode cX1_byChance 9 = .ok (.invokevirtual 192, 3) := dk_182 0 192 (dk_at dksX1_byChance_0 9 rfl rfl)
theorem dX1_byChance_12 : decode cX1_byChance 12 = .ok (.istore_n 3, 1) := dk_62 (dk_at dksX1_byChance_0 12 rfl rfl)
theorem dX1_byChance_13 : decode cX1_byChance 13 = .ok (.iload_n 3, 1) := dk_29 (dk_at dksX1_byChance_0 13 rfl rfl)
theorem dX1_byChance_14 : decode cX1_byChance 14 = .ok (.ifCond .ge 5, 3) := dk_156 0 5 (dk_at dksX1_byChance_0 14 rfl rfl)
theorem dX1_byChance_17 : decode cX1_byChance 17 = .ok (.iload_n 3, 1) := dk_29 (dk_at dksX1_byChance_0 17 rfl rfl)
theorem dX1_byChance_18 : decode cX1_byChance 18 = .ok (.ireturn, 1) := dk_172 (dk_at dksX1_byChance_0 18 rfl rfl)
theorem dX1_byChance_19 : decode cX1_byChance 19 = .ok (.lconst 0, 1) := dk_9 (dk_at dksX1_byChance_0 19 rfl rfl)
theorem dX1_byChance_20 : decode cX1_byChance 20 = .ok (.lstore 4, 2) := dk_55 4 (dk_at dksX1_byChance_0 20 rfl rfl)
theorem dX1_byChance_22 : decode cX1_byChance 22 = .ok (.aload_n 0, 1) := dk_42 (dk_at dksX1_byChance_0 22 rfl rfl)
theorem dX1_byChance_23 : decode cX1_byChance 23 = .ok (.getfield 29, 3) := dk_180 0 29 (dk_at dksX1_byChance_1 0 rfl rfl)
theorem dX1_byChance_26 : decode cX1_byChance 26 = .ok (.iload_n 1, 1) := dk_27 (dk_at dksX1_byChance_1 3 rfl rfl)
theorem dX1_byChance_27 : decode cX1_byChance 27 = .ok (.iaload, 1) := dk_46 (dk_at dksX1_byChance_1 4 rfl rfl)
theorem dX1_byChance_28 : decode cX1_byChance 28 = .ok (.istore 6, 2) := dk_54 6 (dk_at dksX1_byChance_1 5 rfl rfl)
theorem dX1_byChance_30 : decode cX1_byChance 30 = .ok (.iload 6, 2) := dk_21 6 (dk_at dksX1_byChance_1 7 rfl rfl)
theorem dX1_byChance_32 : decode cX1_byChance 32 = .ok (.iload_n 2, 1) := dk_28 (dk_at dksX1_byChance_1 9 rfl rfl)
theorem dX1_byChance_33 : decode cX1_byChance 33 = .ok (.if_icmp .gt 35, 3) := dk_163 0 35 (dk_at dksX1_byChance_1 10 rfl rfl)
theorem dX1_byChance_36 : decode cX1_byChance 36 = .ok (.lload 4, 2) := dk_22 4 (dk_at dksX1_byChance_1 13 rfl rfl)
theorem dX1_byChance_38 : decode cX1_byChance 38 = .ok (.iload_n 2, 1) := dk_28 (dk_at dksX1_byChance_1 15 rfl rfl)
theorem dX1_byChance_39 : decode cX1_byChance 39 = .ok (.iload 6, 2) := dk_21 6 (dk_at dksX1_byChance_1 16 rfl rfl)
theorem dX1_byChance_41 : decode cX1_byChance 41 = .ok (.invokestatic 304, 3) := dk_184 1 48 (dk_at dksX1_byChance_1 18 rfl rfl)
theorem dX1_byChance_44 : decode cX1_byChance 44 = .ok (.aload_n 0, 1) := dk_42 (dk_at dksX1_byChance_1 21 rfl rfl)
theorem dX1_byChance_45 : decode cX1_byChance 45 = .ok (.getfield 110, 3) := dk_180 0 110 (dk_at dksX1_byChance_2 0 rfl rfl)
theorem dX1_byChance_48 : decode cX1_byChance 48 = .ok (.iconst 1, 1) := dk_4 (dk_at dksX1_byChance_2 3 rfl rfl)
theorem dX1_byChance_49 : decode cX1_byChance 49 = .ok (.isub, 1) := dk_100 (dk_at dksX1_byChance_2 4 rfl rfl)
theorem dX1_byChance_50 : decode cX1_byChance 50 = .ok (.i2l, 1) := dk_133 (dk_at dksX1_byChance_2 5 rfl rfl)
theorem dX1_byChance_51 : decode cX1_byChance 51 = .ok (.iload_n 2, 1) := dk_28 (dk_at dksX1_byChance_2 6 rfl rfl)
theorem dX1_byChance_52 : decode cX1_byChance 52 = .ok (.iload 6, 2) := dk_21 6 (dk_at dksX1_byChance_2 7 rfl rfl)
theorem dX1_byChance_54 : decode cX1_byChance 54 = .ok (.isub, 1) := dk_100 (dk_at dksX1_byChance_2 9 rfl rfl)
theorem dX1_byChance_55 : decode cX1_byChance 55 = .ok (.invokestatic 239, 3) := dk_184 0 239 (dk_at dksX1_byChance_2 10 rfl rfl)
theorem dX1_byChance_58 : decode cX1_byChance 58 = .ok (.lmul, 1) := dk_105 (dk_at dksX1_byChance_2 13 rfl rfl)
theorem dX1_byChance_59 : decode cX1_byChance 59 = .ok (.ladd, 1) := dk_97 (dk_at dksX1_byChance_2 14 rfl rfl)
theorem dX1_byChance_60 : decode cX1_byChance 60 = .ok (.lstore 4, 2) := dk_55 4 (dk_at dksX1_byChance_2 15 rfl rfl)
theorem dX1_byChance_62 : decode cX1_byChance 62 = .ok (.iinc 6 1, 3) := dk_132 6 1 (dk_at dksX1_byChance_2 17 rfl rfl)
theorem dX1_byChance_65 : decode cX1_byChance 65 = .ok (.goto (-35), 3) := dk_167 255 221 (dk_at dksX1_byChance_2 20 rfl rfl)
theorem dX1_byChance_68 : decode cX1_byChance 68 = .ok (.aload_n 0, 1) := dk_42 (dk_at dksX1_byChance_2 23 rfl rfl)
theorem dX1_byChance_69 : decode cX1_byChance 69 = .ok (.lload 4, 2) := dk_22 4 (dk_at dksX1_byChance_3 0 rfl rfl)
theorem dX1_byChance_71 : decode cX1_byChance 71 = .ok (.aload_n 0, 1) := dk_42 (dk_at dksX1_byChance_3 2 rfl rfl)
theorem dX1_byChance_72 : decode cX1_byChance 72 = .ok (.getfield 110, 3) := dk_180 0 110 (dk_at dksX1_byChance_3 3 rfl rfl)
theorem dX1_byChance_75 : decode cX1_byChance 75 = .ok (.i2l, 1) := dk_133 (dk_at dksX1_byChance_3 6 rfl rfl)
theorem dX1_byChance_76 : decode cX1_byChance 76 = .ok (.iload_n 2, 1) := dk_28 (dk_at dksX1_byChance_3 7 rfl rfl)
theorem dX1_byChance_77 : decode cX1_byChance 77 = .ok (.invokestatic 239, 3) := dk_184 0 239 (dk_at dksX1_byChance_3 8 rfl rfl)
theorem dX1_byChance_80 : decode cX1_byChance 80 = .ok (.iconst 1, 1) := dk_4 (dk_at dksX1_byChance_3 11 rfl rfl)
theorem dX1_byChance_81 : decode cX1_byChance 81 = .ok (.invokevirtual 308, 3) := dk_182 1 52 (dk_at dksX1_byChance_3 12 rfl rfl)
theorem dX1_byChance_84 : decode cX1_byChance 84 = .ok (.ireturn, 1) := dk_172 (dk_at dksX1_byChance_3 15 rfl rfl)
abbrev cX1_count : ByteArray := prog_8_method_98_code
def yX1_count : MethodName := ⟨RX1, "count", "(I)I"⟩
def dkwX1_count_0 : List UInt8 := [27, 3, 8, 184, 0, 117, 153, 0, 11, 42, 27, 182, 1, 56, 167, 0, 4, 2, 172]
abbrev dktX1_count_0 : List UInt8 := dkwX1_count_0 ++ []
theorem dksX1_count_0 : cX1_count.data.toList.drop 0 = dktX1_count_0 := by decide +kernel
theorem dX1_count_0 : decode cX1_count 0 = .ok (.iload_n 1, 1) := dk_27 (dk_at dksX1_count_0 0 rfl rfl)
theorem dX1_count_1 : decode cX1_count 1 = .ok (.iconst 0, 1) := dk_3 (dk_at dksX1_count_0 1 rfl rfl)
theorem dX1_count_2 : decode cX1_count 2 = .ok (.iconst 5, 1) := dk_8 (dk_at dksX1_count_0 2 rfl rfl)
theorem dX1_count_3 : decode cX1_count 3 = .ok (.invokestatic 117, 3) := dk_184 0 117 (dk_at dksX1_count_0 3 rfl rfl)
theorem dX1_count_6 : decode cX1_count 6 = .ok (.ifCond .eq 11, 3) := dk_153 0 11 (dk_at dksX1_count_0 6 rfl rfl)
theorem dX1_count_9 : decode cX1_count 9 = .ok (.aload_n 0, 1) := dk_42 (dk_at dksX1_count_0 9 rfl rfl)
theorem dX1_count_10 : decode cX1_count 10 = .ok (.iload_n 1, 1) := dk_27 (dk_at dksX1_count_0 10 rfl rfl)
theorem dX1_count_11 : decode cX1_count 11 = .ok (.invokevirtual 312, 3) := dk_182 1 56 (dk_at dksX1_count_0 11 rfl rfl)
theorem dX1_count_14 : decode cX1_count 14 = .ok (.goto 4, 3) := dk_167 0 4 (dk_at dksX1_count_0 14 rfl rfl)
theorem dX1_count_17 : decode cX1_count 17 = .ok (.iconst (-1), 1) := dk_2 (dk_at dksX1_count_0 17 rfl rfl)
theorem dX1_count_18 : decode cX1_count 18 = .ok (.ireturn, 1) := dk_172 (dk_at dksX1_count_0 18 rfl rfl)
abbrev cX1_counted : ByteArray := prog_8_method_97_code
def yX1_counted : MethodName := ⟨RX1, "counted", "(I)I"⟩
def dkwX1_counted_7 : List UInt8 := [172]
abbrev dktX1_counted_7 : List UInt8 := dkwX1_counted_7 ++ []
def dkwX1_counted_6 : List UInt8 := [167, 0, 4, 3, 96, 61, 132, 3, 1, 167, 255, 183, 27, 154, 0, 10, 42, 180, 0, 110, 167, 0, 4, 28]
abbrev dktX1_counted_6 : List UInt8 := dkwX1_counted_6 ++ dktX1_counted_7
def dkwX1_counted_5 : List UInt8 := [164, 0, 7, 4, 167, 0, 23, 27, 8, 160, 0, 17, 21, 4, 153, 0, 12, 42, 180, 0, 29, 29, 46]
abbrev dktX1_counted_5 : List UInt8 := dkwX1_counted_5 ++ dktX1_counted_6
def dkwX1_counted_4 : List UInt8 := [21, 4, 154, 0, 23, 27, 7, 160, 0, 22, 21, 4, 153, 0, 17, 42, 180, 0, 35, 29, 46, 4]
abbrev dktX1_counted_4 : List UInt8 := dkwX1_counted_4 ++ dktX1_counted_5
def dkwX1_counted_3 : List UInt8 := [167, 255, 226, 3, 62, 29, 16, 8, 162, 0, 73, 42, 29, 182, 0, 185, 54, 4, 28, 27, 6, 160, 0, 8]
abbrev dktX1_counted_3 : List UInt8 := dkwX1_counted_3 ++ dktX1_counted_4
def dkwX1_counted_2 : List UInt8 := [27, 5, 160, 0, 16, 42, 180, 0, 22, 29, 46, 155, 0, 7, 4, 167, 0, 4, 3, 96, 61, 132, 3, 1]
abbrev dktX1_counted_2 : List UInt8 := dkwX1_counted_2 ++ dktX1_counted_3
def dkwX1_counted_1 : List UInt8 := [155, 0, 7, 4, 167, 0, 4, 3, 96, 61, 132, 3, 1, 167, 255, 225, 3, 62, 29, 7, 162, 0, 31, 28]
abbrev dktX1_counted_1 : List UInt8 := dkwX1_counted_1 ++ dktX1_counted_2
def dkwX1_counted_0 : List UInt8 := [3, 61, 3, 62, 29, 16, 6, 162, 0, 31, 28, 27, 4, 160, 0, 16, 42, 180, 0, 13, 29, 46]
abbrev dktX1_counted_0 : List UInt8 := dkwX1_counted_0 ++ dktX1_counted_1
theorem dksX1_counted_0 : cX1_counted.data.toList.drop 0 = dktX1_counted_0 := by decide +kernel
theorem dksX1_counted_1 : cX1_counted.data.toList.drop 22 = dktX1_counted_1 := dk_seg dksX1_counted_0 22 rfl rfl
theorem dksX1_counted_2 : cX1_counted.data.toList.drop 46 = dktX1_counted_2 := dk_seg dksX1_counted_1 24 rfl rfl
theorem dksX1_counted_3 : cX1_counted.data.toList.drop 70 = dktX1_counted_3 := dk_seg dksX1_counted_2 24 rfl rfl
theorem dksX1_counted_4 : cX1_counted.data.toList.drop 94 = dktX1_counted_4 := dk_seg dksX1_counted_3 24 rfl rfl
theorem dksX1_counted_5 : cX1_counted.data.toList.drop 116 = dktX1_counted_5 := dk_seg dksX1_counted_4 22 rfl rfl
theorem dksX1_counted_6 : cX1_counted.data.toList.drop 139 = dktX1_counted_6 := dk_seg dksX1_counted_5 23 rfl rfl
theorem dksX1_counted_7 : cX1_counted.data.toList.drop 163 = dktX1_counted_7 := dk_seg dksX1_counted_6 24 rfl rfl
theorem dX1_counted_0 : decode cX1_counted 0 = .ok (.iconst 0, 1) := dk_3 (dk_at dksX1_counted_0 0 rfl rfl)
theorem dX1_counted_1 : decode cX1_counted 1 = .ok (.istore_n 2, 1) := dk_61 (dk_at dksX1_counted_0 1 rfl rfl)
theorem dX1_counted_2 : decode cX1_counted 2 = .ok (.iconst 0, 1) := dk_3 (dk_at dksX1_counted_0 2 rfl rfl)
theorem dX1_counted_3 : decode cX1_counted 3 = .ok (.istore_n 3, 1) := dk_62 (dk_at dksX1_counted_0 3 rfl rfl)
theorem dX1_counted_4 : decode cX1_counted 4 = .ok (.iload_n 3, 1) := dk_29 (dk_at dksX1_counted_0 4 rfl rfl)
theorem dX1_counted_5 : decode cX1_counted 5 = .ok (.bipush 6, 2) := dk_16 6 (dk_at dksX1_counted_0 5 rfl rfl)
theorem dX1_counted_7 : decode cX1_counted 7 = .ok (.if_icmp .ge 31, 3) := dk_162 0 31 (dk_at dksX1_counted_0 7 rfl rfl)
theorem dX1_counted_10 : decode cX1_counted 10 = .ok (.iload_n 2, 1) := dk_28 (dk_at dksX1_counted_0 10 rfl rfl)
theorem dX1_counted_11 : decode cX1_counted 11 = .ok (.iload_n 1, 1) := dk_27 (dk_at dksX1_counted_0 11 rfl rfl)
theorem dX1_counted_12 : decode cX1_counted 12 = .ok (.iconst 1, 1) := dk_4 (dk_at dksX1_counted_0 12 rfl rfl)
theorem dX1_counted_13 : decode cX1_counted 13 = .ok (.if_icmp .ne 16, 3) := dk_160 0 16 (dk_at dksX1_counted_0 13 rfl rfl)
theorem dX1_counted_16 : decode cX1_counted 16 = .ok (.aload_n 0, 1) := dk_42 (dk_at dksX1_counted_0 16 rfl rfl)
theorem dX1_counted_17 : decode cX1_counted 17 = .ok (.getfield 13, 3) := dk_180 0 13 (dk_at dksX1_counted_0 17 rfl rfl)
theorem dX1_counted_20 : decode cX1_counted 20 = .ok (.iload_n 3, 1) := dk_29 (dk_at dksX1_counted_0 20 rfl rfl)
theorem dX1_counted_21 : decode cX1_counted 21 = .ok (.iaload, 1) := dk_46 (dk_at dksX1_counted_0 21 rfl rfl)
theorem dX1_counted_22 : decode cX1_counted 22 = .ok (.ifCond .lt 7, 3) := dk_155 0 7 (dk_at dksX1_counted_1 0 rfl rfl)
theorem dX1_counted_25 : decode cX1_counted 25 = .ok (.iconst 1, 1) := dk_4 (dk_at dksX1_counted_1 3 rfl rfl)
theorem dX1_counted_26 : decode cX1_counted 26 = .ok (.goto 4, 3) := dk_167 0 4 (dk_at dksX1_counted_1 4 rfl rfl)
theorem dX1_counted_29 : decode cX1_counted 29 = .ok (.iconst 0, 1) := dk_3 (dk_at dksX1_counted_1 7 rfl rfl)
theorem dX1_counted_30 : decode cX1_counted 30 = .ok (.iadd, 1) := dk_96 (dk_at dksX1_counted_1 8 rfl rfl)
theorem dX1_counted_31 : decode cX1_counted 31 = .ok (.istore_n 2, 1) := dk_61 (dk_at dksX1_counted_1 9 rfl rfl)
theorem dX1_counted_32 : decode cX1_counted 32 = .ok (.iinc 3 1, 3) := dk_132 3 1 (dk_at dksX1_counted_1 10 rfl rfl)
theorem dX1_counted_35 : decode cX1_counted 35 = .ok (.goto (-31), 3) := dk_167 255 225 (dk_at dksX1_counted_1 13 rfl rfl)
theorem dX1_counted_38 : decode cX1_counted 38 = .ok (.iconst 0, 1) := dk_3 (dk_at dksX1_counted_1 16 rfl rfl)
theorem dX1_counted_39 : decode cX1_counted 39 = .ok (.istore_n 3, 1) := dk_62 (dk_at dksX1_counted_1 17 rfl rfl)
theorem dX1_counted_40 : decode cX1_counted 40 = .ok (.iload_n 3, 1) := dk_29 (dk_at dksX1_counted_1 18 rfl rfl)
theorem dX1_counted_41 : decode cX1_counted 41 = .ok (.iconst 4, 1) := dk_7 (dk_at dksX1_counted_1 19 rfl rfl)
theorem dX1_counted_42 : decode cX1_counted 42 = .ok (.if_icmp .ge 31, 3) := dk_162 0 31 (dk_at dksX1_counted_1 20 rfl rfl)
theorem dX1_counted_45 : decode cX1_counted 45 = .ok (.iload_n 2, 1) := dk_28 (dk_at dksX1_counted_1 23 rfl rfl)
theorem dX1_counted_46 : decode cX1_counted 46 = .ok (.iload_n 1, 1) := dk_27 (dk_at dksX1_counted_2 0 rfl rfl)
theorem dX1_counted_47 : decode cX1_counted 47 = .ok (.iconst 2, 1) := dk_5 (dk_at dksX1_counted_2 1 rfl rfl)
theorem dX1_counted_48 : decode cX1_counted 48 = .ok (.if_icmp .ne 16, 3) := dk_160 0 16 (dk_at dksX1_counted_2 2 rfl rfl)
theorem dX1_counted_51 : decode cX1_counted 51 = .ok (.aload_n 0, 1) := dk_42 (dk_at dksX1_counted_2 5 rfl rfl)
theorem dX1_counted_52 : decode cX1_counted 52 = .ok (.getfield 22, 3) := dk_180 0 22 (dk_at dksX1_counted_2 6 rfl rfl)
theorem dX1_counted_55 : decode cX1_counted 55 = .ok (.iload_n 3, 1) := dk_29 (dk_at dksX1_counted_2 9 rfl rfl)
theorem dX1_counted_56 : decode cX1_counted 56 = .ok (.iaload, 1) := dk_46 (dk_at dksX1_counted_2 10 rfl rfl)
theorem dX1_counted_57 : decode cX1_counted 57 = .ok (.ifCond .lt 7, 3) := dk_155 0 7 (dk_at dksX1_counted_2 11 rfl rfl)
theorem dX1_counted_60 : decode cX1_counted 60 = .ok (.iconst 1, 1) := dk_4 (dk_at dksX1_counted_2 14 rfl rfl)
theorem dX1_counted_61 : decode cX1_counted 61 = .ok (.goto 4, 3) := dk_167 0 4 (dk_at dksX1_counted_2 15 rfl rfl)
theorem dX1_counted_64 : decode cX1_counted 64 = .ok (.iconst 0, 1) := dk_3 (dk_at dksX1_counted_2 18 rfl rfl)
theorem dX1_counted_65 : decode cX1_counted 65 = .ok (.iadd, 1) := dk_96 (dk_at dksX1_counted_2 19 rfl rfl)
theorem dX1_counted_66 : decode cX1_counted 66 = .ok (.istore_n 2, 1) := dk_61 (dk_at dksX1_counted_2 20 rfl rfl)
theorem dX1_counted_67 : decode cX1_counted 67 = .ok (.iinc 3 1, 3) := dk_132 3 1 (dk_at dksX1_counted_2 21 rfl rfl)
theorem dX1_counted_70 : decode cX1_counted 70 = .ok (.goto (-30), 3) := dk_167 255 226 (dk_at dksX1_counted_3 0 rfl rfl)
theorem dX1_counted_73 : decode cX1_counted 73 = .ok (.iconst 0, 1) := dk_3 (dk_at dksX1_counted_3 3 rfl rfl)
theorem dX1_counted_74 : decode cX1_counted 74 = .ok (.istore_n 3, 1) := dk_62 (dk_at dksX1_counted_3 4 rfl rfl)
theorem dX1_counted_75 : decode cX1_counted 75 = .ok (.iload_n 3, 1) := dk_29 (dk_at dksX1_counted_3 5 rfl rfl)
theorem dX1_counted_76 : decode cX1_counted 76 = .ok (.bipush 8, 2) := dk_16 8 (dk_at dksX1_counted_3 6 rfl rfl)
theorem dX1_counted_78 : decode cX1_counted 78 = .ok (.if_icmp .ge 73, 3) := dk_162 0 73 (dk_at dksX1_counted_3 8 rfl rfl)
theorem dX1_counted_81 : decode cX1_counted 81 = .ok (.aload_n 0, 1) := dk_42 (dk_at dksX1_counted_3 11 rfl rfl)
theorem dX1_counted_82 : decode cX1_counted 82 = .ok (.iload_n 3, 1) := dk_29 (dk_at dksX1_counted_3 12 rfl rfl)
theorem dX1_counted_83 : decode cX1_counted 83 = .ok (.invokevirtual 185, 3) := dk_182 0 185 (dk_at dksX1_counted_3 13 rfl rfl)
theorem dX1_counted_86 : decode cX1_counted 86 = .ok (.istore 4, 2) := dk_54 4 (dk_at dksX1_counted_3 16 rfl rfl)
theorem dX1_counted_88 : decode cX1_counted 88 = .ok (.iload_n 2, 1) := dk_28 (dk_at dksX1_counted_3 18 rfl rfl)
theorem dX1_counted_89 : decode cX1_counted 89 = .ok (.iload_n 1, 1) := dk_27 (dk_at dksX1_counted_3 19 rfl rfl)
theorem dX1_counted_90 : decode cX1_counted 90 = .ok (.iconst 3, 1) := dk_6 (dk_at dksX1_counted_3 20 rfl rfl)
theorem dX1_counted_91 : decode cX1_counted 91 = .ok (.if_icmp .ne 8, 3) := dk_160 0 8 (dk_at dksX1_counted_3 21 rfl rfl)
theorem dX1_counted_94 : decode cX1_counted 94 = .ok (.iload 4, 2) := dk_21 4 (dk_at dksX1_counted_4 0 rfl rfl)
theorem dX1_counted_96 : decode cX1_counted 96 = .ok (.ifCond .ne 23, 3) := dk_154 0 23 (dk_at dksX1_counted_4 2 rfl rfl)
theorem dX1_counted_99 : decode cX1_counted 99 = .ok (.iload_n 1, 1) := dk_27 (dk_at dksX1_counted_4 5 rfl rfl)
theorem dX1_counted_100 : decode cX1_counted 100 = .ok (.iconst 4, 1) := dk_7 (dk_at dksX1_counted_4 6 rfl rfl)
theorem dX1_counted_101 : decode cX1_counted 101 = .ok (.if_icmp .ne 22, 3) := dk_160 0 22 (dk_at dksX1_counted_4 7 rfl rfl)
theorem dX1_counted_104 : decode cX1_counted 104 = .ok (.iload 4, 2) := dk_21 4 (dk_at dksX1_counted_4 10 rfl rfl)
theorem dX1_counted_106 : decode cX1_counted 106 = .ok (.ifCond .eq 17, 3) := dk_153 0 17 (dk_at dksX1_counted_4 12 rfl rfl)
theorem dX1_counted_109 : decode cX1_counted 109 = .ok (.aload_n 0, 1) := dk_42 (dk_at dksX1_counted_4 15 rfl rfl)
theorem dX1_counted_110 : decode cX1_counted 110 = .ok (.getfield 35, 3) := dk_180 0 35 (dk_at dksX1_counted_4 16 rfl rfl)
theorem dX1_counted_113 : decode cX1_counted 113 = .ok (.iload_n 3, 1) := dk_29 (dk_at dksX1_counted_4 19 rfl rfl)
theorem dX1_counted_114 : decode cX1_counted 114 = .ok (.iaload, 1) := dk_46 (dk_at dksX1_counted_4 20 rfl rfl)
theorem dX1_counted_115 : decode cX1_counted 115 = .ok (.iconst 1, 1) := dk_4 (dk_at dksX1_counted_4 21 rfl rfl)
theorem dX1_counted_116 : decode cX1_counted 116 = .ok (.if_icmp .le 7, 3) := dk_164 0 7 (dk_at dksX1_counted_5 0 rfl rfl)
theorem dX1_counted_119 : decode cX1_counted 119 = .ok (.iconst 1, 1) := dk_4 (dk_at dksX1_counted_5 3 rfl rfl)
theorem dX1_counted_120 : decode cX1_counted 120 = .ok (.goto 23, 3) := dk_167 0 23 (dk_at dksX1_counted_5 4 rfl rfl)
theorem dX1_counted_123 : decode cX1_counted 123 = .ok (.iload_n 1, 1) := dk_27 (dk_at dksX1_counted_5 7 rfl rfl)
theorem dX1_counted_124 : decode cX1_counted 124 = .ok (.iconst 5, 1) := dk_8 (dk_at dksX1_counted_5 8 rfl rfl)
theorem dX1_counted_125 : decode cX1_counted 125 = .ok (.if_icmp .ne 17, 3) := dk_160 0 17 (dk_at dksX1_counted_5 9 rfl rfl)
theorem dX1_counted_128 : decode cX1_counted 128 = .ok (.iload 4, 2) := dk_21 4 (dk_at dksX1_counted_5 12 rfl rfl)
theorem dX1_counted_130 : decode cX1_counted 130 = .ok (.ifCond .eq 12, 3) := dk_153 0 12 (dk_at dksX1_counted_5 14 rfl rfl)
theorem dX1_counted_133 : decode cX1_counted 133 = .ok (.aload_n 0, 1) := dk_42 (dk_at dksX1_counted_5 17 rfl rfl)
theorem dX1_counted_134 : decode cX1_counted 134 = .ok (.getfield 29, 3) := dk_180 0 29 (dk_at dksX1_counted_5 18 rfl rfl)
theorem dX1_counted_137 : decode cX1_counted 137 = .ok (.iload_n 3, 1) := dk_29 (dk_at dksX1_counted_5 21 rfl rfl)
theorem dX1_counted_138 : decode cX1_counted 138 = .ok (.iaload, 1) := dk_46 (dk_at dksX1_counted_5 22 rfl rfl)
theorem dX1_counted_139 : decode cX1_counted 139 = .ok (.goto 4, 3) := dk_167 0 4 (dk_at dksX1_counted_6 0 rfl rfl)
theorem dX1_counted_142 : decode cX1_counted 142 = .ok (.iconst 0, 1) := dk_3 (dk_at dksX1_counted_6 3 rfl rfl)
theorem dX1_counted_143 : decode cX1_counted 143 = .ok (.iadd, 1) := dk_96 (dk_at dksX1_counted_6 4 rfl rfl)
theorem dX1_counted_144 : decode cX1_counted 144 = .ok (.istore_n 2, 1) := dk_61 (dk_at dksX1_counted_6 5 rfl rfl)
theorem dX1_counted_145 : decode cX1_counted 145 = .ok (.iinc 3 1, 3) := dk_132 3 1 (dk_at dksX1_counted_6 6 rfl rfl)
theorem dX1_counted_148 : decode cX1_counted 148 = .ok (.goto (-73), 3) := dk_167 255 183 (dk_at dksX1_counted_6 9 rfl rfl)
theorem dX1_counted_151 : decode cX1_counted 151 = .ok (.iload_n 1, 1) := dk_27 (dk_at dksX1_counted_6 12 rfl rfl)
theorem dX1_counted_152 : decode cX1_counted 152 = .ok (.ifCond .ne 10, 3) := dk_154 0 10 (dk_at dksX1_counted_6 13 rfl rfl)
theorem dX1_counted_155 : decode cX1_counted 155 = .ok (.aload_n 0, 1) := dk_42 (dk_at dksX1_counted_6 16 rfl rfl)
theorem dX1_counted_156 : decode cX1_counted 156 = .ok (.getfield 110, 3) := dk_180 0 110 (dk_at dksX1_counted_6 17 rfl rfl)
theorem dX1_counted_159 : decode cX1_counted 159 = .ok (.goto 4, 3) := dk_167 0 4 (dk_at dksX1_counted_6 20 rfl rfl)
theorem dX1_counted_162 : decode cX1_counted 162 = .ok (.iload_n 2, 1) := dk_28 (dk_at dksX1_counted_6 23 rfl rfl)
theorem dX1_counted_163 : decode cX1_counted 163 = .ok (.ireturn, 1) := dk_172 (dk_at dksX1_counted_7 0 rfl rfl)
abbrev cX1_digest : ByteArray := prog_8_method_101_code
def yX1_digest : MethodName := ⟨RX1, "digest", "()J"⟩
def dkwX1_digest_7 : List UInt8 := [173]
abbrev dktX1_digest_7 : List UInt8 := dkwX1_digest_7 ++ []
def dkwX1_digest_6 : List UInt8 := [28, 182, 0, 172, 133, 182, 1, 64, 132, 2, 1, 167, 255, 232, 132, 1, 1, 167, 255, 208, 42, 180, 1, 61]
abbrev dktX1_digest_6 : List UInt8 := dkwX1_digest_6 ++ dktX1_digest_7
def dkwX1_digest_5 : List UInt8 := [180, 0, 22, 27, 46, 133, 182, 1, 64, 3, 61, 28, 42, 180, 0, 22, 27, 46, 162, 0, 20, 42, 42, 27]
abbrev dktX1_digest_5 : List UInt8 := dkwX1_digest_5 ++ dktX1_digest_6
def dkwX1_digest_4 : List UInt8 := [182, 1, 64, 132, 2, 1, 167, 255, 232, 132, 1, 1, 167, 255, 207, 3, 60, 27, 7, 162, 0, 49, 42, 42]
abbrev dktX1_digest_4 : List UInt8 := dkwX1_digest_4 ++ dktX1_digest_5
def dkwX1_digest_3 : List UInt8 := [182, 1, 64, 3, 61, 28, 42, 180, 0, 13, 27, 46, 162, 0, 20, 42, 42, 27, 28, 182, 0, 138, 133]
abbrev dktX1_digest_3 : List UInt8 := dkwX1_digest_3 ++ dktX1_digest_4
def dkwX1_digest_2 : List UInt8 := [132, 1, 1, 167, 255, 242, 3, 60, 27, 16, 6, 162, 0, 49, 42, 42, 180, 0, 13, 27, 46, 133]
abbrev dktX1_digest_2 : List UInt8 := dkwX1_digest_2 ++ dktX1_digest_3
def dkwX1_digest_1 : List UInt8 := [182, 1, 64, 132, 1, 1, 167, 255, 237, 3, 60, 27, 16, 8, 162, 0, 14, 42, 27, 182, 1, 72]
abbrev dktX1_digest_1 : List UInt8 := dkwX1_digest_1 ++ dktX1_digest_2
def dkwX1_digest_0 : List UInt8 := [42, 20, 1, 70, 181, 1, 61, 3, 60, 27, 16, 6, 162, 0, 19, 42, 42, 27, 182, 1, 56, 133]
abbrev dktX1_digest_0 : List UInt8 := dkwX1_digest_0 ++ dktX1_digest_1
theorem dksX1_digest_0 : cX1_digest.data.toList.drop 0 = dktX1_digest_0 := by decide +kernel
theorem dksX1_digest_1 : cX1_digest.data.toList.drop 22 = dktX1_digest_1 := dk_seg dksX1_digest_0 22 rfl rfl
theorem dksX1_digest_2 : cX1_digest.data.toList.drop 44 = dktX1_digest_2 := dk_seg dksX1_digest_1 22 rfl rfl
theorem dksX1_digest_3 : cX1_digest.data.toList.drop 66 = dktX1_digest_3 := dk_seg dksX1_digest_2 22 rfl rfl
theorem dksX1_digest_4 : cX1_digest.data.toList.drop 89 = dktX1_digest_4 := dk_seg dksX1_digest_3 23 rfl rfl
theorem dksX1_digest_5 : cX1_digest.data.toList.drop 113 = dktX1_digest_5 := dk_seg dksX1_digest_4 24 rfl rfl
theorem dksX1_digest_6 : cX1_digest.data.toList.drop 137 = dktX1_digest_6 := dk_seg dksX1_digest_5 24 rfl rfl
theorem dksX1_digest_7 : cX1_digest.data.toList.drop 161 = dktX1_digest_7 := dk_seg dksX1_digest_6 24 rfl rfl
theorem dX1_digest_0 : decode cX1_digest 0 = .ok (.aload_n 0, 1) := dk_42 (dk_at dksX1_digest_0 0 rfl rfl)
theorem dX1_digest_1 : decode cX1_digest 1 = .ok (.ldc2_w 326, 3) := dk_20 1 70 (dk_at dksX1_digest_0 1 rfl rfl)
theorem dX1_digest_4 : decode cX1_digest 4 = .ok (.putfield 317, 3) := dk_181 1 61 (dk_at dksX1_digest_0 4 rfl rfl)
theorem dX1_digest_7 : decode cX1_digest 7 = .ok (.iconst 0, 1) := dk_3 (dk_at dksX1_digest_0 7 rfl rfl)
theorem dX1_digest_8 : decode cX1_digest 8 = .ok (.istore_n 1, 1) := dk_60 (dk_at dksX1_digest_0 8 rfl rfl)
theorem dX1_digest_9 : decode cX1_digest 9 = .ok (.iload_n 1, 1) := dk_27 (dk_at dksX1_digest_0 9 rfl rfl)
theorem dX1_digest_10 : decode cX1_digest 10 = .ok (.bipush 6, 2) := dk_16 6 (dk_at dksX1_digest_0 10 rfl rfl)
theorem dX1_digest_12 : decode cX1_digest 12 = .ok (.if_icmp .ge 19, 3) := dk_162 0 19 (dk_at dksX1_digest_0 12 rfl rfl)
theorem dX1_digest_15 : decode cX1_digest 15 = .ok (.aload_n 0, 1) := dk_42 (dk_at dksX1_digest_0 15 rfl rfl)
theorem dX1_digest_16 : decode cX1_digest 16 = .ok (.aload_n 0, 1) := dk_42 (dk_at dksX1_digest_0 16 rfl rfl)
theorem dX1_digest_17 : decode cX1_digest 17 = .ok (.iload_n 1, 1) := dk_27 (dk_at dksX1_digest_0 17 rfl rfl)
theorem dX1_digest_18 : decode cX1_digest 18 = .ok (.invokevirtual 312, 3) := dk_182 1 56 (dk_at dksX1_digest_0 18 rfl rfl)
theorem dX1_digest_21 : decode cX1_digest 21 = .ok (.i2l, 1) := dk_133 (dk_at dksX1_digest_0 21 rfl rfl)
theorem dX1_digest_22 : decode cX1_digest 22 = .ok (.invokevirtual 320, 3) := dk_182 1 64 (dk_at dksX1_digest_1 0 rfl rfl)
theorem dX1_digest_25 : decode cX1_digest 25 = .ok (.iinc 1 1, 3) := dk_132 1 1 (dk_at dksX1_digest_1 3 rfl rfl)
theorem dX1_digest_28 : decode cX1_digest 28 = .ok (.goto (-19), 3) := dk_167 255 237 (dk_at dksX1_digest_1 6 rfl rfl)
theorem dX1_digest_31 : decode cX1_digest 31 = .ok (.iconst 0, 1) := dk_3 (dk_at dksX1_digest_1 9 rfl rfl)
theorem dX1_digest_32 : decode cX1_digest 32 = .ok (.istore_n 1, 1) := dk_60 (dk_at dksX1_digest_1 10 rfl rfl)
theorem dX1_digest_33 : decode cX1_digest 33 = .ok (.iload_n 1, 1) := dk_27 (dk_at dksX1_digest_1 11 rfl rfl)
theorem dX1_digest_34 : decode cX1_digest 34 = .ok (.bipush 8, 2) := dk_16 8 (dk_at dksX1_digest_1 12 rfl rfl)
theorem dX1_digest_36 : decode cX1_digest 36 = .ok (.if_icmp .ge 14, 3) := dk_162 0 14 (dk_at dksX1_digest_1 14 rfl rfl)
theorem dX1_digest_39 : decode cX1_digest 39 = .ok (.aload_n 0, 1) := dk_42 (dk_at dksX1_digest_1 17 rfl rfl)
theorem dX1_digest_40 : decode cX1_digest 40 = .ok (.iload_n 1, 1) := dk_27 (dk_at dksX1_digest_1 18 rfl rfl)
theorem dX1_digest_41 : decode cX1_digest 41 = .ok (.invokevirtual 328, 3) := dk_182 1 72 (dk_at dksX1_digest_1 19 rfl rfl)
theorem dX1_digest_44 : decode cX1_digest 44 = .ok (.iinc 1 1, 3) := dk_132 1 1 (dk_at dksX1_digest_2 0 rfl rfl)
theorem dX1_digest_47 : decode cX1_digest 47 = .ok (.goto (-14), 3) := dk_167 255 242 (dk_at dksX1_digest_2 3 rfl rfl)
theorem dX1_digest_50 : decode cX1_digest 50 = .ok (.iconst 0, 1) := dk_3 (dk_at dksX1_digest_2 6 rfl rfl)
theorem dX1_digest_51 : decode cX1_digest 51 = .ok (.istore_n 1, 1) := dk_60 (dk_at dksX1_digest_2 7 rfl rfl)
theorem dX1_digest_52 : decode cX1_digest 52 = .ok (.iload_n 1, 1) := dk_27 (dk_at dksX1_digest_2 8 rfl rfl)
theorem dX1_digest_53 : decode cX1_digest 53 = .ok (.bipush 6, 2) := dk_16 6 (dk_at dksX1_digest_2 9 rfl rfl)
theorem dX1_digest_55 : decode cX1_digest 55 = .ok (.if_icmp .ge 49, 3) := dk_162 0 49 (dk_at dksX1_digest_2 11 rfl rfl)
theorem dX1_digest_58 : decode cX1_digest 58 = .ok (.aload_n 0, 1) := dk_42 (dk_at dksX1_digest_2 14 rfl rfl)
theorem dX1_digest_59 : decode cX1_digest 59 = .ok (.aload_n 0, 1) := dk_42 (dk_at dksX1_digest_2 15 rfl rfl)
theorem dX1_digest_60 : decode cX1_digest 60 = .ok (.getfield 13, 3) := dk_180 0 13 (dk_at dksX1_digest_2 16 rfl rfl)
theorem dX1_digest_63 : decode cX1_digest 63 = .ok (.iload_n 1, 1) := dk_27 (dk_at dksX1_digest_2 19 rfl rfl)
theorem dX1_digest_64 : decode cX1_digest 64 = .ok (.iaload, 1) := dk_46 (dk_at dksX1_digest_2 20 rfl rfl)
theorem dX1_digest_65 : decode cX1_digest 65 = .ok (.i2l, 1) := dk_133 (dk_at dksX1_digest_2 21 rfl rfl)
theorem dX1_digest_66 : decode cX1_digest 66 = .ok (.invokevirtual 320, 3) := dk_182 1 64 (dk_at dksX1_digest_3 0 rfl rfl)
theorem dX1_digest_69 : decode cX1_digest 69 = .ok (.iconst 0, 1) := dk_3 (dk_at dksX1_digest_3 3 rfl rfl)
theorem dX1_digest_70 : decode cX1_digest 70 = .ok (.istore_n 2, 1) := dk_61 (dk_at dksX1_digest_3 4 rfl rfl)
theorem dX1_digest_71 : decode cX1_digest 71 = .ok (.iload_n 2, 1) := dk_28 (dk_at dksX1_digest_3 5 rfl rfl)
theorem dX1_digest_72 : decode cX1_digest 72 = .ok (.aload_n 0, 1) := dk_42 (dk_at dksX1_digest_3 6 rfl rfl)
theorem dX1_digest_73 : decode cX1_digest 73 = .ok (.getfield 13, 3) := dk_180 0 13 (dk_at dksX1_digest_3 7 rfl rfl)
theorem dX1_digest_76 : decode cX1_digest 76 = .ok (.iload_n 1, 1) := dk_27 (dk_at dksX1_digest_3 10 rfl rfl)
theorem dX1_digest_77 : decode cX1_digest 77 = .ok (.iaload, 1) := dk_46 (dk_at dksX1_digest_3 11 rfl rfl)
theorem dX1_digest_78 : decode cX1_digest 78 = .ok (.if_icmp .ge 20, 3) := dk_162 0 20 (dk_at dksX1_digest_3 12 rfl rfl)
theorem dX1_digest_81 : decode cX1_digest 81 = .ok (.aload_n 0, 1) := dk_42 (dk_at dksX1_digest_3 15 rfl rfl)
theorem dX1_digest_82 : decode cX1_digest 82 = .ok (.aload_n 0, 1) := dk_42 (dk_at dksX1_digest_3 16 rfl rfl)
theorem dX1_digest_83 : decode cX1_digest 83 = .ok (.iload_n 1, 1) := dk_27 (dk_at dksX1_digest_3 17 rfl rfl)
theorem dX1_digest_84 : decode cX1_digest 84 = .ok (.iload_n 2, 1) := dk_28 (dk_at dksX1_digest_3 18 rfl rfl)
theorem dX1_digest_85 : decode cX1_digest 85 = .ok (.invokevirtual 138, 3) := dk_182 0 138 (dk_at dksX1_digest_3 19 rfl rfl)
theorem dX1_digest_88 : decode cX1_digest 88 = .ok (.i2l, 1) := dk_133 (dk_at dksX1_digest_3 22 rfl rfl)
theorem dX1_digest_89 : decode cX1_digest 89 = .ok (.invokevirtual 320, 3) := dk_182 1 64 (dk_at dksX1_digest_4 0 rfl rfl)
theorem dX1_digest_92 : decode cX1_digest 92 = .ok (.iinc 2 1, 3) := dk_132 2 1 (dk_at dksX1_digest_4 3 rfl rfl)
theorem dX1_digest_95 : decode cX1_digest 95 = .ok (.goto (-24), 3) := dk_167 255 232 (dk_at dksX1_digest_4 6 rfl rfl)
theorem dX1_digest_98 : decode cX1_digest 98 = .ok (.iinc 1 1, 3) := dk_132 1 1 (dk_at dksX1_digest_4 9 rfl rfl)
theorem dX1_digest_101 : decode cX1_digest 101 = .ok (.goto (-49), 3) := dk_167 255 207 (dk_at dksX1_digest_4 12 rfl rfl)
theorem dX1_digest_104 : decode cX1_digest 104 = .ok (.iconst 0, 1) := dk_3 (dk_at dksX1_digest_4 15 rfl rfl)
theorem dX1_digest_105 : decode cX1_digest 105 = .ok (.istore_n 1, 1) := dk_60 (dk_at dksX1_digest_4 16 rfl rfl)
theorem dX1_digest_106 : decode cX1_digest 106 = .ok (.iload_n 1, 1) := dk_27 (dk_at dksX1_digest_4 17 rfl rfl)
theorem dX1_digest_107 : decode cX1_digest 107 = .ok (.iconst 4, 1) := dk_7 (dk_at dksX1_digest_4 18 rfl rfl)
theorem dX1_digest_108 : decode cX1_digest 108 = .ok (.if_icmp .ge 49, 3) := dk_162 0 49 (dk_at dksX1_digest_4 19 rfl rfl)
theorem dX1_digest_111 : decode cX1_digest 111 = .ok (.aload_n 0, 1) := dk_42 (dk_at dksX1_digest_4 22 rfl rfl)
theorem dX1_digest_112 : decode cX1_digest 112 = .ok (.aload_n 0, 1) := dk_42 (dk_at dksX1_digest_4 23 rfl rfl)
theorem dX1_digest_113 : decode cX1_digest 113 = .ok (.getfield 22, 3) := dk_180 0 22 (dk_at dksX1_digest_5 0 rfl rfl)
theorem dX1_digest_116 : decode cX1_digest 116 = .ok (.iload_n 1, 1) := dk_27 (dk_at dksX1_digest_5 3 rfl rfl)
theorem dX1_digest_117 : decode cX1_digest 117 = .ok (.iaload, 1) := dk_46 (dk_at dksX1_digest_5 4 rfl rfl)
theorem dX1_digest_118 : decode cX1_digest 118 = .ok (.i2l, 1) := dk_133 (dk_at dksX1_digest_5 5 rfl rfl)
theorem dX1_digest_119 : decode cX1_digest 119 = .ok (.invokevirtual 320, 3) := dk_182 1 64 (dk_at dksX1_digest_5 6 rfl rfl)
theorem dX1_digest_122 : decode cX1_digest 122 = .ok (.iconst 0, 1) := dk_3 (dk_at dksX1_digest_5 9 rfl rfl)
theorem dX1_digest_123 : decode cX1_digest 123 = .ok (.istore_n 2, 1) := dk_61 (dk_at dksX1_digest_5 10 rfl rfl)
theorem dX1_digest_124 : decode cX1_digest 124 = .ok (.iload_n 2, 1) := dk_28 (dk_at dksX1_digest_5 11 rfl rfl)
theorem dX1_digest_125 : decode cX1_digest 125 = .ok (.aload_n 0, 1) := dk_42 (dk_at dksX1_digest_5 12 rfl rfl)
theorem dX1_digest_126 : decode cX1_digest 126 = .ok (.getfield 22, 3) := dk_180 0 22 (dk_at dksX1_digest_5 13 rfl rfl)
theorem dX1_digest_129 : decode cX1_digest 129 = .ok (.iload_n 1, 1) := dk_27 (dk_at dksX1_digest_5 16 rfl rfl)
theorem dX1_digest_130 : decode cX1_digest 130 = .ok (.iaload, 1) := dk_46 (dk_at dksX1_digest_5 17 rfl rfl)
theorem dX1_digest_131 : decode cX1_digest 131 = .ok (.if_icmp .ge 20, 3) := dk_162 0 20 (dk_at dksX1_digest_5 18 rfl rfl)
theorem dX1_digest_134 : decode cX1_digest 134 = .ok (.aload_n 0, 1) := dk_42 (dk_at dksX1_digest_5 21 rfl rfl)
theorem dX1_digest_135 : decode cX1_digest 135 = .ok (.aload_n 0, 1) := dk_42 (dk_at dksX1_digest_5 22 rfl rfl)
theorem dX1_digest_136 : decode cX1_digest 136 = .ok (.iload_n 1, 1) := dk_27 (dk_at dksX1_digest_5 23 rfl rfl)
theorem dX1_digest_137 : decode cX1_digest 137 = .ok (.iload_n 2, 1) := dk_28 (dk_at dksX1_digest_6 0 rfl rfl)
theorem dX1_digest_138 : decode cX1_digest 138 = .ok (.invokevirtual 172, 3) := dk_182 0 172 (dk_at dksX1_digest_6 1 rfl rfl)
theorem dX1_digest_141 : decode cX1_digest 141 = .ok (.i2l, 1) := dk_133 (dk_at dksX1_digest_6 4 rfl rfl)
theorem dX1_digest_142 : decode cX1_digest 142 = .ok (.invokevirtual 320, 3) := dk_182 1 64 (dk_at dksX1_digest_6 5 rfl rfl)
theorem dX1_digest_145 : decode cX1_digest 145 = .ok (.iinc 2 1, 3) := dk_132 2 1 (dk_at dksX1_digest_6 8 rfl rfl)
theorem dX1_digest_148 : decode cX1_digest 148 = .ok (.goto (-24), 3) := dk_167 255 232 (dk_at dksX1_digest_6 11 rfl rfl)
theorem dX1_digest_151 : decode cX1_digest 151 = .ok (.iinc 1 1, 3) := dk_132 1 1 (dk_at dksX1_digest_6 14 rfl rfl)
theorem dX1_digest_154 : decode cX1_digest 154 = .ok (.goto (-48), 3) := dk_167 255 208 (dk_at dksX1_digest_6 17 rfl rfl)
theorem dX1_digest_157 : decode cX1_digest 157 = .ok (.aload_n 0, 1) := dk_42 (dk_at dksX1_digest_6 20 rfl rfl)
theorem dX1_digest_158 : decode cX1_digest 158 = .ok (.getfield 317, 3) := dk_180 1 61 (dk_at dksX1_digest_6 21 rfl rfl)
theorem dX1_digest_161 : decode cX1_digest 161 = .ok (.lreturn, 1) := dk_173 (dk_at dksX1_digest_7 0 rfl rfl)
abbrev cX1_mix : ByteArray := prog_8_method_99_code
def yX1_mix : MethodName := ⟨RX1, "mix", "(J)V"⟩
def dkwX1_mix_0 : List UInt8 := [42, 20, 1, 59, 42, 180, 1, 61, 105, 31, 97, 181, 1, 61, 177]
abbrev dktX1_mix_0 : List UInt8 := dkwX1_mix_0 ++ []
theorem dksX1_mix_0 : cX1_mix.data.toList.drop 0 = dktX1_mix_0 := by decide +kernel
theorem dX1_mix_0 : decode cX1_mix 0 = .ok (.aload_n 0, 1) := dk_42 (dk_at dksX1_mix_0 0 rfl rfl)
theorem dX1_mix_1 : decode cX1_mix 1 = .ok (.ldc2_w 315, 3) := dk_20 1 59 (dk_at dksX1_mix_0 1 rfl rfl)
theorem dX1_mix_4 : decode cX1_mix 4 = .ok (.aload_n 0, 1) := dk_42 (dk_at dksX1_mix_0 4 rfl rfl)
theorem dX1_mix_5 : decode cX1_mix 5 = .ok (.getfield 317, 3) := dk_180 1 61 (dk_at dksX1_mix_0 5 rfl rfl)
theorem dX1_mix_8 : decode cX1_mix 8 = .ok (.lmul, 1) := dk_105 (dk_at dksX1_mix_0 8 rfl rfl)
theorem dX1_mix_9 : decode cX1_mix 9 = .ok (.lload_n 1, 1) := dk_31 (dk_at dksX1_mix_0 9 rfl rfl)
theorem dX1_mix_10 : decode cX1_mix 10 = .ok (.ladd, 1) := dk_97 (dk_at dksX1_mix_0 10 rfl rfl)
theorem dX1_mix_11 : decode cX1_mix 11 = .ok (.putfield 317, 3) := dk_181 1 61 (dk_at dksX1_mix_0 11 rfl rfl)
theorem dX1_mix_14 : decode cX1_mix 14 = .ok (.return_, 1) := dk_177 (dk_at dksX1_mix_0 14 rfl rfl)
abbrev cX1_mixWord : ByteArray := prog_8_method_100_code
def yX1_mixWord : MethodName := ⟨RX1, "mixWord", "(I)V"⟩
def dkwX1_mixWord_3 : List UInt8 := [132, 2, 1, 167, 255, 232, 167, 0, 10, 42, 20, 1, 68, 182, 1, 64, 177]
abbrev dktX1_mixWord_3 : List UInt8 := dkwX1_mixWord_3 ++ []
def dkwX1_mixWord_2 : List UInt8 := [61, 28, 42, 180, 0, 29, 27, 46, 162, 0, 20, 42, 42, 27, 28, 182, 0, 148, 133, 182, 1, 64]
abbrev dktX1_mixWord_2 : List UInt8 := dkwX1_mixWord_2 ++ dktX1_mixWord_3
def dkwX1_mixWord_1 : List UInt8 := [180, 0, 35, 27, 46, 182, 0, 196, 133, 182, 1, 64, 42, 42, 180, 0, 29, 27, 46, 133, 182, 1, 64, 3]
abbrev dktX1_mixWord_1 : List UInt8 := dkwX1_mixWord_1 ++ dktX1_mixWord_2
def dkwX1_mixWord_0 : List UInt8 := [42, 27, 182, 0, 185, 153, 0, 73, 42, 42, 180, 0, 35, 27, 46, 133, 182, 1, 64, 42, 42, 27, 42]
abbrev dktX1_mixWord_0 : List UInt8 := dkwX1_mixWord_0 ++ dktX1_mixWord_1
theorem dksX1_mixWord_0 : cX1_mixWord.data.toList.drop 0 = dktX1_mixWord_0 := by decide +kernel
theorem dksX1_mixWord_1 : cX1_mixWord.data.toList.drop 23 = dktX1_mixWord_1 := dk_seg dksX1_mixWord_0 23 rfl rfl
theorem dksX1_mixWord_2 : cX1_mixWord.data.toList.drop 47 = dktX1_mixWord_2 := dk_seg dksX1_mixWord_1 24 rfl rfl
theorem dksX1_mixWord_3 : cX1_mixWord.data.toList.drop 69 = dktX1_mixWord_3 := dk_seg dksX1_mixWord_2 22 rfl rfl
theorem dX1_mixWord_0 : decode cX1_mixWord 0 = .ok (.aload_n 0, 1) := dk_42 (dk_at dksX1_mixWord_0 0 rfl rfl)
theorem dX1_mixWord_1 : decode cX1_mixWord 1 = .ok (.iload_n 1, 1) := dk_27 (dk_at dksX1_mixWord_0 1 rfl rfl)
theorem dX1_mixWord_2 : decode cX1_mixWord 2 = .ok (.invokevirtual 185, 3) := dk_182 0 185 (dk_at dksX1_mixWord_0 2 rfl rfl)
theorem dX1_mixWord_5 : decode cX1_mixWord 5 = .ok (.ifCond .eq 73, 3) := dk_153 0 73 (dk_at dksX1_mixWord_0 5 rfl rfl)
theorem dX1_mixWord_8 : decode cX1_mixWord 8 = .ok (.aload_n 0, 1) := dk_42 (dk_at dksX1_mixWord_0 8 rfl rfl)
theorem dX1_mixWord_9 : decode cX1_mixWord 9 = .ok (.aload_n 0, 1) := dk_42 (dk_at dksX1_mixWord_0 9 rfl rfl)
theorem dX1_mixWord_10 : decode cX1_mixWord 10 = .ok (.getfield 35, 3) := dk_180 0 35 (dk_at dksX1_mixWord_0 10 rfl rfl)
theorem dX1_mixWord_13 : decode cX1_mixWord 13 = .ok (.iload_n 1, 1) := dk_27 (dk_at dksX1_mixWord_0 13 rfl rfl)
theorem dX1_mixWord_14 : decode cX1_mixWord 14 = .ok (.iaload, 1) := dk_46 (dk_at dksX1_mixWord_0 14 rfl rfl)
theorem dX1_mixWord_15 : decode cX1_mixWord 15 = .ok (.i2l, 1) := dk_133 (dk_at dksX1_mixWord_0 15 rfl rfl)
theorem dX1_mixWord_16 : decode cX1_mixWord 16 = .ok (.invokevirtual 320, 3) := dk_182 1 64 (dk_at dksX1_mixWord_0 16 rfl rfl)
theorem dX1_mixWord_19 : decode cX1_mixWord 19 = .ok (.aload_n 0, 1) := dk_42 (dk_at dksX1_mixWord_0 19 rfl rfl)
theorem dX1_mixWord_20 : decode cX1_mixWord 20 = .ok (.aload_n 0, 1) := dk_42 (dk_at dksX1_mixWord_0 20 rfl rfl)
theorem dX1_mixWord_21 : decode cX1_mixWord 21 = .ok (.iload_n 1, 1) := dk_27 (dk_at dksX1_mixWord_0 21 rfl rfl)
theorem dX1_mixWord_22 : decode cX1_mixWord 22 = .ok (.aload_n 0, 1) := dk_42 (dk_at dksX1_mixWord_0 22 rfl rfl)
theorem dX1_mixWord_23 : decode cX1_mixWord 23 = .ok (.getfield 35, 3) := dk_180 0 35 (dk_at dksX1_mixWord_1 0 rfl rfl)
theorem dX1_mixWord_26 : decode cX1_mixWord 26 = .ok (.iload_n 1, 1) := dk_27 (dk_at dksX1_mixWord_1 3 rfl rfl)
theorem dX1_mixWord_27 : decode cX1_mixWord 27 = .ok (.iaload, 1) := dk_46 (dk_at dksX1_mixWord_1 4 rfl rfl)
theorem dX1_mixWord_28 : decode cX1_mixWord 28 = .ok (.invokevirtual 196, 3) := dk_182 0 196 (dk_at dksX1_mixWord_1 5 rfl rfl)
theorem dX1_mixWord_31 : decode cX1_mixWord 31 = .ok (.i2l, 1) := dk_133 (dk_at dksX1_mixWord_1 8 rfl rfl)
theorem dX1_mixWord_32 : decode cX1_mixWord 32 = .ok (.invokevirtual 320, 3) := dk_182 1 64 (dk_at dksX1_mixWord_1 9 rfl rfl)
theorem dX1_mixWord_35 : decode cX1_mixWord 35 = .ok (.aload_n 0, 1) := dk_42 (dk_at dksX1_mixWord_1 12 rfl rfl)
theorem dX1_mixWord_36 : decode cX1_mixWord 36 = .ok (.aload_n 0, 1) := dk_42 (dk_at dksX1_mixWord_1 13 rfl rfl)
theorem dX1_mixWord_37 : decode cX1_mixWord 37 = .ok (.getfield 29, 3) := dk_180 0 29 (dk_at dksX1_mixWord_1 14 rfl rfl)
theorem dX1_mixWord_40 : decode cX1_mixWord 40 = .ok (.iload_n 1, 1) := dk_27 (dk_at dksX1_mixWord_1 17 rfl rfl)
theorem dX1_mixWord_41 : decode cX1_mixWord 41 = .ok (.iaload, 1) := dk_46 (dk_at dksX1_mixWord_1 18 rfl rfl)
theorem dX1_mixWord_42 : decode cX1_mixWord 42 = .ok (.i2l, 1) := dk_133 (dk_at dksX1_mixWord_1 19 rfl rfl)
theorem dX1_mixWord_43 : decode cX1_mixWord 43 = .ok (.invokevirtual 320, 3) := dk_182 1 64 (dk_at dksX1_mixWord_1 20 rfl rfl)
theorem dX1_mixWord_46 : decode cX1_mixWord 46 = .ok (.iconst 0, 1) := dk_3 (dk_at dksX1_mixWord_1 23 rfl rfl)
theorem dX1_mixWord_47 : decode cX1_mixWord 47 = .ok (.istore_n 2, 1) := dk_61 (dk_at dksX1_mixWord_2 0 rfl rfl)
theorem dX1_mixWord_48 : decode cX1_mixWord 48 = .ok (.iload_n 2, 1) := dk_28 (dk_at dksX1_mixWord_2 1 rfl rfl)
theorem dX1_mixWord_49 : decode cX1_mixWord 49 = .ok (.aload_n 0, 1) := dk_42 (dk_at dksX1_mixWord_2 2 rfl rfl)
theorem dX1_mixWord_50 : decode cX1_mixWord 50 = .ok (.getfield 29, 3) := dk_180 0 29 (dk_at dksX1_mixWord_2 3 rfl rfl)
theorem dX1_mixWord_53 : decode cX1_mixWord 53 = .ok (.iload_n 1, 1) := dk_27 (dk_at dksX1_mixWord_2 6 rfl rfl)
theorem dX1_mixWord_54 : decode cX1_mixWord 54 = .ok (.iaload, 1) := dk_46 (dk_at dksX1_mixWord_2 7 rfl rfl)
theorem dX1_mixWord_55 : decode cX1_mixWord 55 = .ok (.if_icmp .ge 20, 3) := dk_162 0 20 (dk_at dksX1_mixWord_2 8 rfl rfl)
theorem dX1_mixWord_58 : decode cX1_mixWord 58 = .ok (.aload_n 0, 1) := dk_42 (dk_at dksX1_mixWord_2 11 rfl rfl)
theorem dX1_mixWord_59 : decode cX1_mixWord 59 = .ok (.aload_n 0, 1) := dk_42 (dk_at dksX1_mixWord_2 12 rfl rfl)
theorem dX1_mixWord_60 : decode cX1_mixWord 60 = .ok (.iload_n 1, 1) := dk_27 (dk_at dksX1_mixWord_2 13 rfl rfl)
theorem dX1_mixWord_61 : decode cX1_mixWord 61 = .ok (.iload_n 2, 1) := dk_28 (dk_at dksX1_mixWord_2 14 rfl rfl)
theorem dX1_mixWord_62 : decode cX1_mixWord 62 = .ok (.invokevirtual 148, 3) := dk_182 0 148 (dk_at dksX1_mixWord_2 15 rfl rfl)
theorem dX1_mixWord_65 : decode cX1_mixWord 65 = .ok (.i2l, 1) := dk_133 (dk_at dksX1_mixWord_2 18 rfl rfl)
theorem dX1_mixWord_66 : decode cX1_mixWord 66 = .ok (.invokevirtual 320, 3) := dk_182 1 64 (dk_at dksX1_mixWord_2 19 rfl rfl)
theorem dX1_mixWord_69 : decode cX1_mixWord 69 = .ok (.iinc 2 1, 3) := dk_132 2 1 (dk_at dksX1_mixWord_3 0 rfl rfl)
theorem dX1_mixWord_72 : decode cX1_mixWord 72 = .ok (.goto (-24), 3) := dk_167 255 232 (dk_at dksX1_mixWord_3 3 rfl rfl)
theorem dX1_mixWord_75 : decode cX1_mixWord 75 = .ok (.goto 10, 3) := dk_167 0 10 (dk_at dksX1_mixWord_3 6 rfl rfl)
theorem dX1_mixWord_78 : decode cX1_mixWord 78 = .ok (.aload_n 0, 1) := dk_42 (dk_at dksX1_mixWord_3 9 rfl rfl)
theorem dX1_mixWord_79 : decode cX1_mixWord 79 = .ok (.ldc2_w 324, 3) := dk_20 1 68 (dk_at dksX1_mixWord_3 10 rfl rfl)
theorem dX1_mixWord_82 : decode cX1_mixWord 82 = .ok (.invokevirtual 320, 3) := dk_182 1 64 (dk_at dksX1_mixWord_3 13 rfl rfl)
theorem dX1_mixWord_85 : decode cX1_mixWord 85 = .ok (.return_, 1) := dk_177 (dk_at dksX1_mixWord_3 16 rfl rfl)
theorem q81 : (Jvm.Cond.initialized "WithinWordsModel") ∈ lw_all := lw_g (lw_at lw_m1 2 rfl) rfl
theorem q864 : (Jvm.Cond.instantiable "WithinWordsModel" (44 : Nat)) ∈ lw_all := lw_g (lw_at lw_m4 65 rfl) rfl
theorem q866 : (Jvm.Cond.instanceMethod ({ cls := "WithinWordsModel", name := "<init>", desc := "()V" } : Jvm.MethodName)) ∈ lw_all := lw_g (lw_at lw_m4 67 rfl) rfl
theorem q867 : (Jvm.Cond.code ({ cls := "WithinWordsModel", name := "<init>", desc := "()V" } : Jvm.MethodName) prog_8_method_1_code (2 : Nat) (Option.none : Option Jvm.ClassFile.FieldType)) ∈ lw_all := lw_g (lw_at lw_m4 68 rfl) rfl
theorem q868 : (Jvm.Cond.methodLink "WithinWordsModel" (1 : Nat) ({ cls := "java/lang/Object", name := "<init>", desc := "()V" } : Jvm.MethodName)) ∈ lw_all := lw_g (lw_at lw_m4 69 rfl) rfl
theorem q869 : (Jvm.Cond.fieldLink "WithinWordsModel" (114 : Nat) "WithinWordsModel" "latest" "I") ∈ lw_all := lw_g (lw_at lw_m4 70 rfl) rfl
theorem q870 : (Jvm.Cond.fieldLink "WithinWordsModel" (7 : Nat) "WithinWordsModel" "came" "[I") ∈ lw_all := lw_g (lw_at lw_m4 71 rfl) rfl
theorem q871 : (Jvm.Cond.fieldLink "WithinWordsModel" (121 : Nat) "WithinWordsModel" "asked" "I") ∈ lw_all := lw_g (lw_at lw_m4 72 rfl) rfl
theorem q872 : (Jvm.Cond.fieldLink "WithinWordsModel" (124 : Nat) "WithinWordsModel" "many" "J") ∈ lw_all := lw_g (lw_at lw_m4 73 rfl) rfl
theorem q873 : (Jvm.Cond.fieldLink "WithinWordsModel" (127 : Nat) "WithinWordsModel" "upper" "J") ∈ lw_all := lw_g (lw_at lw_m4 74 rfl) rfl
theorem q874 : (Jvm.Cond.fieldLink "WithinWordsModel" (106 : Nat) "WithinWordsModel" "lower" "J") ∈ lw_all := lw_g (lw_at lw_m4 75 rfl) rfl
theorem q875 : (Jvm.Cond.fieldLink "WithinWordsModel" (13 : Nat) "WithinWordsModel" "sizes" "[I") ∈ lw_all := lw_g (lw_at lw_m4 76 rfl) rfl
theorem q876 : (Jvm.Cond.fieldLink "WithinWordsModel" (16 : Nat) "WithinWordsModel" "rows" "[I") ∈ lw_all := lw_g (lw_at lw_m4 77 rfl) rfl
theorem q877 : (Jvm.Cond.fieldLink "WithinWordsModel" (19 : Nat) "WithinWordsModel" "copied" "[I") ∈ lw_all := lw_g (lw_at lw_m4 78 rfl) rfl
theorem q878 : (Jvm.Cond.fieldLink "WithinWordsModel" (22 : Nat) "WithinWordsModel" "textSizes" "[I") ∈ lw_all := lw_g (lw_at lw_m4 79 rfl) rfl
theorem q879 : (Jvm.Cond.fieldLink "WithinWordsModel" (25 : Nat) "WithinWordsModel" "bytes" "[B") ∈ lw_all := lw_g (lw_at lw_m4 80 rfl) rfl
theorem q880 : (Jvm.Cond.fieldLink "WithinWordsModel" (110 : Nat) "WithinWordsModel" "letterMany" "I") ∈ lw_all := lw_g (lw_at lw_m4 81 rfl) rfl
theorem q881 : (Jvm.Cond.fieldLink "WithinWordsModel" (29 : Nat) "WithinWordsModel" "wordSizes" "[I") ∈ lw_all := lw_g (lw_at lw_m4 82 rfl) rfl
theorem q882 : (Jvm.Cond.fieldLink "WithinWordsModel" (32 : Nat) "WithinWordsModel" "letters" "[I") ∈ lw_all := lw_g (lw_at lw_m4 83 rfl) rfl
theorem q883 : (Jvm.Cond.fieldLink "WithinWordsModel" (35 : Nat) "WithinWordsModel" "kinds" "[I") ∈ lw_all := lw_g (lw_at lw_m4 84 rfl) rfl
theorem q884 : (Jvm.Cond.fieldLink "WithinWordsModel" (38 : Nat) "WithinWordsModel" "ofs" "[I") ∈ lw_all := lw_g (lw_at lw_m4 85 rfl) rfl
theorem q885 : (Jvm.Cond.fieldLink "WithinWordsModel" (41 : Nat) "WithinWordsModel" "tolds" "[I") ∈ lw_all := lw_g (lw_at lw_m4 86 rfl) rfl
theorem q886 : (Jvm.Cond.fieldLink "WithinWordsModel" (151 : Nat) "WithinWordsModel" "madeSize" "I") ∈ lw_all := lw_g (lw_at lw_m4 87 rfl) rfl
theorem q887 : (Jvm.Cond.fieldLink "WithinWordsModel" (44 : Nat) "WithinWordsModel" "made" "[I") ∈ lw_all := lw_g (lw_at lw_m4 88 rfl) rfl
theorem q888 : (Jvm.Cond.fieldLink "WithinWordsModel" (47 : Nat) "WithinWordsModel" "begins" "[I") ∈ lw_all := lw_g (lw_at lw_m4 89 rfl) rfl
theorem q889 : (Jvm.Cond.fieldLink "WithinWordsModel" (50 : Nat) "WithinWordsModel" "items" "[I") ∈ lw_all := lw_g (lw_at lw_m4 90 rfl) rfl
theorem q890 : (Jvm.Cond.fieldLink "WithinWordsModel" (164 : Nat) "WithinWordsModel" "isOver" "Z") ∈ lw_all := lw_g (lw_at lw_m4 91 rfl) rfl
theorem q891 : (Jvm.Cond.fieldLink "WithinWordsModel" (53 : Nat) "WithinWordsModel" "counts" "[J") ∈ lw_all := lw_g (lw_at lw_m4 92 rfl) rfl
theorem q892 : (Jvm.Cond.fieldLink "WithinWordsModel" (57 : Nat) "WithinWordsModel" "early" "[I") ∈ lw_all := lw_g (lw_at lw_m4 93 rfl) rfl
theorem q893 : (Jvm.Cond.fieldLink "WithinWordsModel" (60 : Nat) "WithinWordsModel" "late" "[I") ∈ lw_all := lw_g (lw_at lw_m4 94 rfl) rfl
theorem q894 : (Jvm.Cond.fieldLink "WithinWordsModel" (63 : Nat) "WithinWordsModel" "takes" "[I") ∈ lw_all := lw_g (lw_at lw_m4 95 rfl) rfl
theorem q895 : (Jvm.Cond.fieldLink "WithinWordsModel" (66 : Nat) "WithinWordsModel" "inners" "[J") ∈ lw_all := lw_g (lw_at lw_m4 96 rfl) rfl
theorem q896 : (Jvm.Cond.fieldLink "WithinWordsModel" (224 : Nat) "WithinWordsModel" "restFrom" "I") ∈ lw_all := lw_g (lw_at lw_m4 97 rfl) rfl
theorem q897 : (Jvm.Cond.fieldLink "WithinWordsModel" (227 : Nat) "WithinWordsModel" "restSet" "I") ∈ lw_all := lw_g (lw_at lw_m4 98 rfl) rfl
theorem q898 : (Jvm.Cond.fieldLink "WithinWordsModel" (69 : Nat) "WithinWordsModel" "queue" "[I") ∈ lw_all := lw_g (lw_at lw_m4 99 rfl) rfl
theorem q899 : (Jvm.Cond.fieldLink "WithinWordsModel" (72 : Nat) "WithinWordsModel" "whence" "[I") ∈ lw_all := lw_g (lw_at lw_m4 100 rfl) rfl
theorem q900 : (Jvm.Cond.fieldLink "WithinWordsModel" (75 : Nat) "WithinWordsModel" "byLetter" "[I") ∈ lw_all := lw_g (lw_at lw_m4 101 rfl) rfl
theorem q901 : (Jvm.Cond.fieldLink "WithinWordsModel" (78 : Nat) "WithinWordsModel" "isCome" "[Z") ∈ lw_all := lw_g (lw_at lw_m4 102 rfl) rfl
theorem q902 : (Jvm.Cond.fieldLink "WithinWordsModel" (246 : Nat) "WithinWordsModel" "otherSize" "I") ∈ lw_all := lw_g (lw_at lw_m4 103 rfl) rfl
theorem q903 : (Jvm.Cond.fieldLink "WithinWordsModel" (82 : Nat) "WithinWordsModel" "other" "[I") ∈ lw_all := lw_g (lw_at lw_m4 104 rfl) rfl
theorem q904 : (Jvm.Cond.fieldLink "WithinWordsModel" (270 : Nat) "WithinWordsModel" "ofMany" "I") ∈ lw_all := lw_g (lw_at lw_m4 105 rfl) rfl
theorem q905 : (Jvm.Cond.fieldLink "WithinWordsModel" (85 : Nat) "WithinWordsModel" "ofWords" "[I") ∈ lw_all := lw_g (lw_at lw_m4 106 rfl) rfl
theorem q906 : (Jvm.Cond.fieldLink "WithinWordsModel" (88 : Nat) "WithinWordsModel" "best" "[I") ∈ lw_all := lw_g (lw_at lw_m4 107 rfl) rfl
theorem q907 : (Jvm.Cond.fieldLink "WithinWordsModel" (91 : Nat) "WithinWordsModel" "at" "[I") ∈ lw_all := lw_g (lw_at lw_m4 108 rfl) rfl
theorem q908 : (Jvm.Cond.fieldLink "WithinWordsModel" (94 : Nat) "WithinWordsModel" "boths" "[J") ∈ lw_all := lw_g (lw_at lw_m4 109 rfl) rfl
theorem q909 : (Jvm.Cond.fieldLink "WithinWordsModel" (97 : Nat) "WithinWordsModel" "often" "[J") ∈ lw_all := lw_g (lw_at lw_m4 110 rfl) rfl
theorem q910 : (Jvm.Cond.fieldLink "WithinWordsModel" (100 : Nat) "WithinWordsModel" "oftenThen" "[J") ∈ lw_all := lw_g (lw_at lw_m4 111 rfl) rfl
theorem q911 : (Jvm.Cond.fieldLink "WithinWordsModel" (103 : Nat) "WithinWordsModel" "short3" "[J") ∈ lw_all := lw_g (lw_at lw_m4 112 rfl) rfl
theorem q912 : (Jvm.Cond.fieldLink "WithinWordsModel" (317 : Nat) "WithinWordsModel" "h" "J") ∈ lw_all := lw_g (lw_at lw_m4 113 rfl) rfl
theorem q913 : (Jvm.Cond.lays "WithinWordsModel" "WithinWordsModel" "latest" "I") ∈ lw_all := lw_g (lw_at lw_m4 114 rfl) rfl
theorem q914 : (Jvm.Cond.soleField "WithinWordsModel" "latest") ∈ lw_all := lw_g (lw_at lw_m4 115 rfl) rfl
theorem q915 : (Jvm.Cond.laysFinal "WithinWordsModel" "WithinWordsModel" "came" "[I") ∈ lw_all := lw_g (lw_at lw_m4 116 rfl) rfl
theorem q916 : (Jvm.Cond.soleField "WithinWordsModel" "came") ∈ lw_all := lw_g (lw_at lw_m4 117 rfl) rfl
theorem q917 : (Jvm.Cond.lays "WithinWordsModel" "WithinWordsModel" "asked" "I") ∈ lw_all := lw_g (lw_at lw_m4 118 rfl) rfl
theorem q918 : (Jvm.Cond.soleField "WithinWordsModel" "asked") ∈ lw_all := lw_g (lw_at lw_m4 119 rfl) rfl
theorem q919 : (Jvm.Cond.lays "WithinWordsModel" "WithinWordsModel" "many" "J") ∈ lw_all := lw_g (lw_at lw_m4 120 rfl) rfl
theorem q920 : (Jvm.Cond.soleField "WithinWordsModel" "many") ∈ lw_all := lw_g (lw_at lw_m4 121 rfl) rfl
theorem q921 : (Jvm.Cond.lays "WithinWordsModel" "WithinWordsModel" "upper" "J") ∈ lw_all := lw_g (lw_at lw_m4 122 rfl) rfl
theorem q922 : (Jvm.Cond.soleField "WithinWordsModel" "upper") ∈ lw_all := lw_g (lw_at lw_m4 123 rfl) rfl
theorem q923 : (Jvm.Cond.lays "WithinWordsModel" "WithinWordsModel" "lower" "J") ∈ lw_all := lw_g (lw_at lw_m4 124 rfl) rfl
theorem q924 : (Jvm.Cond.soleField "WithinWordsModel" "lower") ∈ lw_all := lw_g (lw_at lw_m4 125 rfl) rfl
theorem q925 : (Jvm.Cond.laysFinal "WithinWordsModel" "WithinWordsModel" "sizes" "[I") ∈ lw_all := lw_g (lw_at lw_m4 126 rfl) rfl
theorem q926 : (Jvm.Cond.soleField "WithinWordsModel" "sizes") ∈ lw_all := lw_g (lw_at lw_m4 127 rfl) rfl
theorem q927 : (Jvm.Cond.laysFinal "WithinWordsModel" "WithinWordsModel" "rows" "[I") ∈ lw_all := lw_g (lw_at lw_m4 128 rfl) rfl
theorem q928 : (Jvm.Cond.soleField "WithinWordsModel" "rows") ∈ lw_all := lw_g (lw_at lw_m4 129 rfl) rfl
theorem q929 : (Jvm.Cond.laysFinal "WithinWordsModel" "WithinWordsModel" "copied" "[I") ∈ lw_all := lw_g (lw_at lw_m4 130 rfl) rfl
theorem q930 : (Jvm.Cond.soleField "WithinWordsModel" "copied") ∈ lw_all := lw_g (lw_at lw_m4 131 rfl) rfl
theorem q931 : (Jvm.Cond.laysFinal "WithinWordsModel" "WithinWordsModel" "textSizes" "[I") ∈ lw_all := lw_g (lw_at lw_m4 132 rfl) rfl
theorem q932 : (Jvm.Cond.soleField "WithinWordsModel" "textSizes") ∈ lw_all := lw_g (lw_at lw_m4 133 rfl) rfl
theorem q933 : (Jvm.Cond.laysFinal "WithinWordsModel" "WithinWordsModel" "bytes" "[B") ∈ lw_all := lw_g (lw_at lw_m4 134 rfl) rfl
theorem q934 : (Jvm.Cond.soleField "WithinWordsModel" "bytes") ∈ lw_all := lw_g (lw_at lw_m4 135 rfl) rfl
theorem q935 : (Jvm.Cond.lays "WithinWordsModel" "WithinWordsModel" "letterMany" "I") ∈ lw_all := lw_g (lw_at lw_m4 136 rfl) rfl
theorem q936 : (Jvm.Cond.soleField "WithinWordsModel" "letterMany") ∈ lw_all := lw_g (lw_at lw_m4 137 rfl) rfl
theorem q937 : (Jvm.Cond.laysFinal "WithinWordsModel" "WithinWordsModel" "wordSizes" "[I") ∈ lw_all := lw_g (lw_at lw_m4 138 rfl) rfl
theorem q938 : (Jvm.Cond.soleField "WithinWordsModel" "wordSizes") ∈ lw_all := lw_g (lw_at lw_m4 139 rfl) rfl
theorem q939 : (Jvm.Cond.laysFinal "WithinWordsModel" "WithinWordsModel" "letters" "[I") ∈ lw_all := lw_g (lw_at lw_m4 140 rfl) rfl
theorem q940 : (Jvm.Cond.soleField "WithinWordsModel" "letters") ∈ lw_all := lw_g (lw_at lw_m4 141 rfl) rfl
theorem q941 : (Jvm.Cond.laysFinal "WithinWordsModel" "WithinWordsModel" "kinds" "[I") ∈ lw_all := lw_g (lw_at lw_m4 142 rfl) rfl
theorem q942 : (Jvm.Cond.soleField "WithinWordsModel" "kinds") ∈ lw_all := lw_g (lw_at lw_m4 143 rfl) rfl
theorem q943 : (Jvm.Cond.laysFinal "WithinWordsModel" "WithinWordsModel" "ofs" "[I") ∈ lw_all := lw_g (lw_at lw_m4 144 rfl) rfl
theorem q944 : (Jvm.Cond.soleField "WithinWordsModel" "ofs") ∈ lw_all := lw_g (lw_at lw_m4 145 rfl) rfl
theorem q945 : (Jvm.Cond.laysFinal "WithinWordsModel" "WithinWordsModel" "tolds" "[I") ∈ lw_all := lw_g (lw_at lw_m4 146 rfl) rfl
theorem q946 : (Jvm.Cond.soleField "WithinWordsModel" "tolds") ∈ lw_all := lw_g (lw_at lw_m4 147 rfl) rfl
theorem q947 : (Jvm.Cond.lays "WithinWordsModel" "WithinWordsModel" "madeSize" "I") ∈ lw_all := lw_g (lw_at lw_m4 148 rfl) rfl
theorem q948 : (Jvm.Cond.soleField "WithinWordsModel" "madeSize") ∈ lw_all := lw_g (lw_at lw_m4 149 rfl) rfl
theorem q949 : (Jvm.Cond.laysFinal "WithinWordsModel" "WithinWordsModel" "made" "[I") ∈ lw_all := lw_g (lw_at lw_m4 150 rfl) rfl
theorem q950 : (Jvm.Cond.soleField "WithinWordsModel" "made") ∈ lw_all := lw_g (lw_at lw_m4 151 rfl) rfl
theorem q951 : (Jvm.Cond.laysFinal "WithinWordsModel" "WithinWordsModel" "begins" "[I") ∈ lw_all := lw_g (lw_at lw_m4 152 rfl) rfl
theorem q952 : (Jvm.Cond.soleField "WithinWordsModel" "begins") ∈ lw_all := lw_g (lw_at lw_m4 153 rfl) rfl
theorem q953 : (Jvm.Cond.laysFinal "WithinWordsModel" "WithinWordsModel" "items" "[I") ∈ lw_all := lw_g (lw_at lw_m4 154 rfl) rfl
theorem q954 : (Jvm.Cond.soleField "WithinWordsModel" "items") ∈ lw_all := lw_g (lw_at lw_m4 155 rfl) rfl
theorem q955 : (Jvm.Cond.lays "WithinWordsModel" "WithinWordsModel" "isOver" "Z") ∈ lw_all := lw_g (lw_at lw_m4 156 rfl) rfl
theorem q956 : (Jvm.Cond.soleField "WithinWordsModel" "isOver") ∈ lw_all := lw_g (lw_at lw_m4 157 rfl) rfl
theorem q957 : (Jvm.Cond.laysFinal "WithinWordsModel" "WithinWordsModel" "counts" "[J") ∈ lw_all := lw_g (lw_at lw_m4 158 rfl) rfl
theorem q958 : (Jvm.Cond.soleField "WithinWordsModel" "counts") ∈ lw_all := lw_g (lw_at lw_m4 159 rfl) rfl
theorem q959 : (Jvm.Cond.laysFinal "WithinWordsModel" "WithinWordsModel" "early" "[I") ∈ lw_all := lw_g (lw_at lw_m4 160 rfl) rfl
theorem q960 : (Jvm.Cond.soleField "WithinWordsModel" "early") ∈ lw_all := lw_g (lw_at lw_m4 161 rfl) rfl
theorem q961 : (Jvm.Cond.laysFinal "WithinWordsModel" "WithinWordsModel" "late" "[I") ∈ lw_all := lw_g (lw_at lw_m4 162 rfl) rfl
theorem q962 : (Jvm.Cond.soleField "WithinWordsModel" "late") ∈ lw_all := lw_g (lw_at lw_m4 163 rfl) rfl
theorem q963 : (Jvm.Cond.laysFinal "WithinWordsModel" "WithinWordsModel" "takes" "[I") ∈ lw_all := lw_g (lw_at lw_m4 164 rfl) rfl
theorem q964 : (Jvm.Cond.soleField "WithinWordsModel" "takes") ∈ lw_all := lw_g (lw_at lw_m4 165 rfl) rfl
theorem q965 : (Jvm.Cond.laysFinal "WithinWordsModel" "WithinWordsModel" "inners" "[J") ∈ lw_all := lw_g (lw_at lw_m4 166 rfl) rfl
theorem q966 : (Jvm.Cond.soleField "WithinWordsModel" "inners") ∈ lw_all := lw_g (lw_at lw_m4 167 rfl) rfl
theorem q967 : (Jvm.Cond.lays "WithinWordsModel" "WithinWordsModel" "restFrom" "I") ∈ lw_all := lw_g (lw_at lw_m4 168 rfl) rfl
theorem q968 : (Jvm.Cond.soleField "WithinWordsModel" "restFrom") ∈ lw_all := lw_g (lw_at lw_m4 169 rfl) rfl
theorem q969 : (Jvm.Cond.lays "WithinWordsModel" "WithinWordsModel" "restSet" "I") ∈ lw_all := lw_g (lw_at lw_m4 170 rfl) rfl
theorem q970 : (Jvm.Cond.soleField "WithinWordsModel" "restSet") ∈ lw_all := lw_g (lw_at lw_m4 171 rfl) rfl
theorem q971 : (Jvm.Cond.laysFinal "WithinWordsModel" "WithinWordsModel" "queue" "[I") ∈ lw_all := lw_g (lw_at lw_m4 172 rfl) rfl
theorem q972 : (Jvm.Cond.soleField "WithinWordsModel" "queue") ∈ lw_all := lw_g (lw_at lw_m4 173 rfl) rfl
theorem q973 : (Jvm.Cond.laysFinal "WithinWordsModel" "WithinWordsModel" "whence" "[I") ∈ lw_all := lw_g (lw_at lw_m4 174 rfl) rfl
theorem q974 : (Jvm.Cond.soleField "WithinWordsModel" "whence") ∈ lw_all := lw_g (lw_at lw_m4 175 rfl) rfl
theorem q975 : (Jvm.Cond.laysFinal "WithinWordsModel" "WithinWordsModel" "byLetter" "[I") ∈ lw_all := lw_g (lw_at lw_m4 176 rfl) rfl
theorem q976 : (Jvm.Cond.soleField "WithinWordsModel" "byLetter") ∈ lw_all := lw_g (lw_at lw_m4 177 rfl) rfl
theorem q977 : (Jvm.Cond.laysFinal "WithinWordsModel" "WithinWordsModel" "isCome" "[Z") ∈ lw_all := lw_g (lw_at lw_m4 178 rfl) rfl
theorem q978 : (Jvm.Cond.soleField "WithinWordsModel" "isCome") ∈ lw_all := lw_g (lw_at lw_m4 179 rfl) rfl
theorem q979 : (Jvm.Cond.lays "WithinWordsModel" "WithinWordsModel" "otherSize" "I") ∈ lw_all := lw_g (lw_at lw_m4 180 rfl) rfl
theorem q980 : (Jvm.Cond.soleField "WithinWordsModel" "otherSize") ∈ lw_all := lw_g (lw_at lw_m4 181 rfl) rfl
theorem q981 : (Jvm.Cond.laysFinal "WithinWordsModel" "WithinWordsModel" "other" "[I") ∈ lw_all := lw_g (lw_at lw_m4 182 rfl) rfl
theorem q982 : (Jvm.Cond.soleField "WithinWordsModel" "other") ∈ lw_all := lw_g (lw_at lw_m4 183 rfl) rfl
theorem q983 : (Jvm.Cond.lays "WithinWordsModel" "WithinWordsModel" "ofMany" "I") ∈ lw_all := lw_g (lw_at lw_m4 184 rfl) rfl
theorem q984 : (Jvm.Cond.soleField "WithinWordsModel" "ofMany") ∈ lw_all := lw_g (lw_at lw_m4 185 rfl) rfl
theorem q985 : (Jvm.Cond.laysFinal "WithinWordsModel" "WithinWordsModel" "ofWords" "[I") ∈ lw_all := lw_g (lw_at lw_m4 186 rfl) rfl
theorem q986 : (Jvm.Cond.soleField "WithinWordsModel" "ofWords") ∈ lw_all := lw_g (lw_at lw_m4 187 rfl) rfl
theorem q987 : (Jvm.Cond.laysFinal "WithinWordsModel" "WithinWordsModel" "best" "[I") ∈ lw_all := lw_g (lw_at lw_m4 188 rfl) rfl
theorem q988 : (Jvm.Cond.soleField "WithinWordsModel" "best") ∈ lw_all := lw_g (lw_at lw_m4 189 rfl) rfl
theorem q989 : (Jvm.Cond.laysFinal "WithinWordsModel" "WithinWordsModel" "at" "[I") ∈ lw_all := lw_g (lw_at lw_m4 190 rfl) rfl
theorem q990 : (Jvm.Cond.soleField "WithinWordsModel" "at") ∈ lw_all := lw_g (lw_at lw_m4 191 rfl) rfl
theorem q991 : (Jvm.Cond.laysFinal "WithinWordsModel" "WithinWordsModel" "boths" "[J") ∈ lw_all := lw_g (lw_at lw_m4 192 rfl) rfl
theorem q992 : (Jvm.Cond.soleField "WithinWordsModel" "boths") ∈ lw_all := lw_g (lw_at lw_m4 193 rfl) rfl
theorem q993 : (Jvm.Cond.laysFinal "WithinWordsModel" "WithinWordsModel" "often" "[J") ∈ lw_all := lw_g (lw_at lw_m4 194 rfl) rfl
theorem q994 : (Jvm.Cond.soleField "WithinWordsModel" "often") ∈ lw_all := lw_g (lw_at lw_m4 195 rfl) rfl
theorem q995 : (Jvm.Cond.laysFinal "WithinWordsModel" "WithinWordsModel" "oftenThen" "[J") ∈ lw_all := lw_g (lw_at lw_m4 196 rfl) rfl
theorem q996 : (Jvm.Cond.soleField "WithinWordsModel" "oftenThen") ∈ lw_all := lw_g (lw_at lw_m4 197 rfl) rfl
theorem q997 : (Jvm.Cond.laysFinal "WithinWordsModel" "WithinWordsModel" "short3" "[J") ∈ lw_all := lw_g (lw_at lw_m4 198 rfl) rfl
theorem q998 : (Jvm.Cond.soleField "WithinWordsModel" "short3") ∈ lw_all := lw_g (lw_at lw_m4 199 rfl) rfl
theorem q999 : (Jvm.Cond.lays "WithinWordsModel" "WithinWordsModel" "h" "J") ∈ lw_all := lw_g (lw_at lw_m4 200 rfl) rfl
theorem q1000 : (Jvm.Cond.soleField "WithinWordsModel" "h") ∈ lw_all := lw_g (lw_at lw_m4 201 rfl) rfl
theorem q1001 : (Jvm.Cond.superclass "WithinWordsModel" "java/lang/Object") ∈ lw_all := lw_g (lw_at lw_m4 202 rfl) rfl
theorem q1004 : (Jvm.Cond.instanceMethod ({ cls := "WithinWordsModel", name := "finding", desc := "()I" } : Jvm.MethodName)) ∈ lw_all := lw_g (lw_at lw_m4 205 rfl) rfl
theorem q1005 : (Jvm.Cond.selects "WithinWordsModel" ({ cls := "WithinWordsModel", name := "finding", desc := "()I" } : Jvm.MethodName) ({ cls := "WithinWordsModel", name := "finding", desc := "()I" } : Jvm.MethodName)) ∈ lw_all := lw_g (lw_at lw_m4 206 rfl) rfl
theorem q1006 : (Jvm.Cond.code ({ cls := "WithinWordsModel", name := "finding", desc := "()I" } : Jvm.MethodName) prog_8_method_5_code (1 : Nat) (Option.some Jvm.ClassFile.FieldType.int)) ∈ lw_all := lw_g (lw_at lw_m4 207 rfl) rfl
theorem q1008 : (Jvm.Cond.instanceMethod ({ cls := "WithinWordsModel", name := "findings", desc := "(I)I" } : Jvm.MethodName)) ∈ lw_all := lw_g (lw_at lw_m4 209 rfl) rfl
theorem q1009 : (Jvm.Cond.selects "WithinWordsModel" ({ cls := "WithinWordsModel", name := "findings", desc := "(I)I" } : Jvm.MethodName) ({ cls := "WithinWordsModel", name := "findings", desc := "(I)I" } : Jvm.MethodName)) ∈ lw_all := lw_g (lw_at lw_m4 210 rfl) rfl
theorem q1010 : (Jvm.Cond.code ({ cls := "WithinWordsModel", name := "findings", desc := "(I)I" } : Jvm.MethodName) prog_8_method_6_code (2 : Nat) (Option.some Jvm.ClassFile.FieldType.int)) ∈ lw_all := lw_g (lw_at lw_m4 211 rfl) rfl
theorem q1011 : (Jvm.Cond.methodLink "WithinWordsModel" (117 : Nat) ({ cls := "WithinWordsModel", name := "in", desc := "(III)Z" } : Jvm.MethodName)) ∈ lw_all := lw_g (lw_at lw_m4 212 rfl) rfl
theorem q1012 : (Jvm.Cond.static ({ cls := "WithinWordsModel", name := "in", desc := "(III)Z" } : Jvm.MethodName)) ∈ lw_all := lw_g (lw_at lw_m4 213 rfl) rfl
theorem q1013 : (Jvm.Cond.code ({ cls := "WithinWordsModel", name := "in", desc := "(III)Z" } : Jvm.MethodName) prog_8_method_2_code (3 : Nat) (Option.some Jvm.ClassFile.FieldType.boolean)) ∈ lw_all := lw_g (lw_at lw_m4 214 rfl) rfl
theorem q1015 : (Jvm.Cond.instanceMethod ({ cls := "WithinWordsModel", name := "asked", desc := "()I" } : Jvm.MethodName)) ∈ lw_all := lw_g (lw_at lw_m4 216 rfl) rfl
theorem q1016 : (Jvm.Cond.selects "WithinWordsModel" ({ cls := "WithinWordsModel", name := "asked", desc := "()I" } : Jvm.MethodName) ({ cls := "WithinWordsModel", name := "asked", desc := "()I" } : Jvm.MethodName)) ∈ lw_all := lw_g (lw_at lw_m4 217 rfl) rfl
theorem q1017 : (Jvm.Cond.code ({ cls := "WithinWordsModel", name := "asked", desc := "()I" } : Jvm.MethodName) prog_8_method_9_code (1 : Nat) (Option.some Jvm.ClassFile.FieldType.int)) ∈ lw_all := lw_g (lw_at lw_m4 218 rfl) rfl
theorem q1019 : (Jvm.Cond.instanceMethod ({ cls := "WithinWordsModel", name := "many", desc := "()J" } : Jvm.MethodName)) ∈ lw_all := lw_g (lw_at lw_m4 220 rfl) rfl
theorem q1020 : (Jvm.Cond.selects "WithinWordsModel" ({ cls := "WithinWordsModel", name := "many", desc := "()J" } : Jvm.MethodName) ({ cls := "WithinWordsModel", name := "many", desc := "()J" } : Jvm.MethodName)) ∈ lw_all := lw_g (lw_at lw_m4 221 rfl) rfl
theorem q1021 : (Jvm.Cond.code ({ cls := "WithinWordsModel", name := "many", desc := "()J" } : Jvm.MethodName) prog_8_method_10_code (1 : Nat) (Option.some Jvm.ClassFile.FieldType.long)) ∈ lw_all := lw_g (lw_at lw_m4 222 rfl) rfl
theorem q1023 : (Jvm.Cond.instanceMethod ({ cls := "WithinWordsModel", name := "upper", desc := "()J" } : Jvm.MethodName)) ∈ lw_all := lw_g (lw_at lw_m4 224 rfl) rfl
theorem q1024 : (Jvm.Cond.selects "WithinWordsModel" ({ cls := "WithinWordsModel", name := "upper", desc := "()J" } : Jvm.MethodName) ({ cls := "WithinWordsModel", name := "upper", desc := "()J" } : Jvm.MethodName)) ∈ lw_all := lw_g (lw_at lw_m4 225 rfl) rfl
theorem q1025 : (Jvm.Cond.code ({ cls := "WithinWordsModel", name := "upper", desc := "()J" } : Jvm.MethodName) prog_8_method_12_code (1 : Nat) (Option.some Jvm.ClassFile.FieldType.long)) ∈ lw_all := lw_g (lw_at lw_m4 226 rfl) rfl
theorem q1027 : (Jvm.Cond.instanceMethod ({ cls := "WithinWordsModel", name := "lower", desc := "()J" } : Jvm.MethodName)) ∈ lw_all := lw_g (lw_at lw_m4 228 rfl) rfl
theorem q1028 : (Jvm.Cond.selects "WithinWordsModel" ({ cls := "WithinWordsModel", name := "lower", desc := "()J" } : Jvm.MethodName) ({ cls := "WithinWordsModel", name := "lower", desc := "()J" } : Jvm.MethodName)) ∈ lw_all := lw_g (lw_at lw_m4 229 rfl) rfl
theorem q1029 : (Jvm.Cond.code ({ cls := "WithinWordsModel", name := "lower", desc := "()J" } : Jvm.MethodName) prog_8_method_13_code (1 : Nat) (Option.some Jvm.ClassFile.FieldType.long)) ∈ lw_all := lw_g (lw_at lw_m4 230 rfl) rfl
theorem q1031 : (Jvm.Cond.instanceMethod ({ cls := "WithinWordsModel", name := "row", desc := "(II)I" } : Jvm.MethodName)) ∈ lw_all := lw_g (lw_at lw_m4 232 rfl) rfl
theorem q1032 : (Jvm.Cond.selects "WithinWordsModel" ({ cls := "WithinWordsModel", name := "row", desc := "(II)I" } : Jvm.MethodName) ({ cls := "WithinWordsModel", name := "row", desc := "(II)I" } : Jvm.MethodName)) ∈ lw_all := lw_g (lw_at lw_m4 233 rfl) rfl
theorem q1033 : (Jvm.Cond.code ({ cls := "WithinWordsModel", name := "row", desc := "(II)I" } : Jvm.MethodName) prog_8_method_16_code (4 : Nat) (Option.some Jvm.ClassFile.FieldType.int)) ∈ lw_all := lw_g (lw_at lw_m4 234 rfl) rfl
theorem q1034 : (Jvm.Cond.methodLink "WithinWordsModel" (130 : Nat) ({ cls := "WithinWordsModel", name := "isRow", desc := "(I)Z" } : Jvm.MethodName)) ∈ lw_all := lw_g (lw_at lw_m4 235 rfl) rfl
theorem q1035 : (Jvm.Cond.static ({ cls := "WithinWordsModel", name := "isRow", desc := "(I)Z" } : Jvm.MethodName)) ∈ lw_all := lw_g (lw_at lw_m4 236 rfl) rfl
theorem q1036 : (Jvm.Cond.code ({ cls := "WithinWordsModel", name := "isRow", desc := "(I)Z" } : Jvm.MethodName) prog_8_method_14_code (1 : Nat) (Option.some Jvm.ClassFile.FieldType.boolean)) ∈ lw_all := lw_g (lw_at lw_m4 237 rfl) rfl
theorem q1037 : (Jvm.Cond.methodLink "WithinWordsModel" (134 : Nat) ({ cls := "WithinWordsModel", name := "meets", desc := "(I)I" } : Jvm.MethodName)) ∈ lw_all := lw_g (lw_at lw_m4 238 rfl) rfl
theorem q1038 : (Jvm.Cond.privateMethod ({ cls := "WithinWordsModel", name := "meets", desc := "(I)I" } : Jvm.MethodName)) ∈ lw_tbl := lw_at lw_m4 239 rfl
theorem q1039 : (Jvm.Cond.instanceMethod ({ cls := "WithinWordsModel", name := "meets", desc := "(I)I" } : Jvm.MethodName)) ∈ lw_all := lw_g (lw_at lw_m5 0 rfl) rfl
theorem q1040 : (Jvm.Cond.code ({ cls := "WithinWordsModel", name := "meets", desc := "(I)I" } : Jvm.MethodName) prog_8_method_4_code (2 : Nat) (Option.some Jvm.ClassFile.FieldType.int)) ∈ lw_all := lw_g (lw_at lw_m5 1 rfl) rfl
theorem q1042 : (Jvm.Cond.instanceMethod ({ cls := "WithinWordsModel", name := "lay", desc := "(III)I" } : Jvm.MethodName)) ∈ lw_all := lw_g (lw_at lw_m5 3 rfl) rfl
theorem q1043 : (Jvm.Cond.selects "WithinWordsModel" ({ cls := "WithinWordsModel", name := "lay", desc := "(III)I" } : Jvm.MethodName) ({ cls := "WithinWordsModel", name := "lay", desc := "(III)I" } : Jvm.MethodName)) ∈ lw_all := lw_g (lw_at lw_m5 4 rfl) rfl
theorem q1044 : (Jvm.Cond.code ({ cls := "WithinWordsModel", name := "lay", desc := "(III)I" } : Jvm.MethodName) prog_8_method_17_code (5 : Nat) (Option.some Jvm.ClassFile.FieldType.int)) ∈ lw_all := lw_g (lw_at lw_m5 5 rfl) rfl
theorem q1045 : (Jvm.Cond.methodLink "WithinWordsModel" (138 : Nat) ({ cls := "WithinWordsModel", name := "rowAt", desc := "(II)I" } : Jvm.MethodName)) ∈ lw_all := lw_g (lw_at lw_m5 6 rfl) rfl
theorem q1046 : (Jvm.Cond.privateMethod ({ cls := "WithinWordsModel", name := "rowAt", desc := "(II)I" } : Jvm.MethodName)) ∈ lw_tbl := lw_at lw_m5 7 rfl
theorem q1047 : (Jvm.Cond.instanceMethod ({ cls := "WithinWordsModel", name := "rowAt", desc := "(II)I" } : Jvm.MethodName)) ∈ lw_all := lw_g (lw_at lw_m5 8 rfl) rfl
theorem q1048 : (Jvm.Cond.code ({ cls := "WithinWordsModel", name := "rowAt", desc := "(II)I" } : Jvm.MethodName) prog_8_method_15_code (3 : Nat) (Option.some Jvm.ClassFile.FieldType.int)) ∈ lw_all := lw_g (lw_at lw_m5 9 rfl) rfl
theorem q1049 : (Jvm.Cond.methodLink "WithinWordsModel" (142 : Nat) ({ cls := "WithinWordsModel", name := "tells", desc := "(II)I" } : Jvm.MethodName)) ∈ lw_all := lw_g (lw_at lw_m5 10 rfl) rfl
theorem q1050 : (Jvm.Cond.privateMethod ({ cls := "WithinWordsModel", name := "tells", desc := "(II)I" } : Jvm.MethodName)) ∈ lw_tbl := lw_at lw_m5 11 rfl
theorem q1051 : (Jvm.Cond.instanceMethod ({ cls := "WithinWordsModel", name := "tells", desc := "(II)I" } : Jvm.MethodName)) ∈ lw_all := lw_g (lw_at lw_m5 12 rfl) rfl
theorem q1052 : (Jvm.Cond.code ({ cls := "WithinWordsModel", name := "tells", desc := "(II)I" } : Jvm.MethodName) prog_8_method_7_code (3 : Nat) (Option.some Jvm.ClassFile.FieldType.int)) ∈ lw_all := lw_g (lw_at lw_m5 13 rfl) rfl
theorem q1054 : (Jvm.Cond.instanceMethod ({ cls := "WithinWordsModel", name := "at", desc := "(II)I" } : Jvm.MethodName)) ∈ lw_all := lw_g (lw_at lw_m5 15 rfl) rfl
theorem q1055 : (Jvm.Cond.selects "WithinWordsModel" ({ cls := "WithinWordsModel", name := "at", desc := "(II)I" } : Jvm.MethodName) ({ cls := "WithinWordsModel", name := "at", desc := "(II)I" } : Jvm.MethodName)) ∈ lw_all := lw_g (lw_at lw_m5 16 rfl) rfl
theorem q1056 : (Jvm.Cond.code ({ cls := "WithinWordsModel", name := "at", desc := "(II)I" } : Jvm.MethodName) prog_8_method_18_code (3 : Nat) (Option.some Jvm.ClassFile.FieldType.int)) ∈ lw_all := lw_g (lw_at lw_m5 17 rfl) rfl
theorem q1058 : (Jvm.Cond.instanceMethod ({ cls := "WithinWordsModel", name := "tear", desc := "(I)I" } : Jvm.MethodName)) ∈ lw_all := lw_g (lw_at lw_m5 19 rfl) rfl
theorem q1059 : (Jvm.Cond.selects "WithinWordsModel" ({ cls := "WithinWordsModel", name := "tear", desc := "(I)I" } : Jvm.MethodName) ({ cls := "WithinWordsModel", name := "tear", desc := "(I)I" } : Jvm.MethodName)) ∈ lw_all := lw_g (lw_at lw_m5 20 rfl) rfl
theorem q1060 : (Jvm.Cond.code ({ cls := "WithinWordsModel", name := "tear", desc := "(I)I" } : Jvm.MethodName) prog_8_method_19_code (2 : Nat) (Option.some Jvm.ClassFile.FieldType.int)) ∈ lw_all := lw_g (lw_at lw_m5 21 rfl) rfl
theorem q1062 : (Jvm.Cond.instanceMethod ({ cls := "WithinWordsModel", name := "copy", desc := "(IIIII)I" } : Jvm.MethodName)) ∈ lw_all := lw_g (lw_at lw_m5 23 rfl) rfl
theorem q1063 : (Jvm.Cond.selects "WithinWordsModel" ({ cls := "WithinWordsModel", name := "copy", desc := "(IIIII)I" } : Jvm.MethodName) ({ cls := "WithinWordsModel", name := "copy", desc := "(IIIII)I" } : Jvm.MethodName)) ∈ lw_all := lw_g (lw_at lw_m5 24 rfl) rfl
theorem q1064 : (Jvm.Cond.code ({ cls := "WithinWordsModel", name := "copy", desc := "(IIIII)I" } : Jvm.MethodName) prog_8_method_20_code (7 : Nat) (Option.some Jvm.ClassFile.FieldType.int)) ∈ lw_all := lw_g (lw_at lw_m5 25 rfl) rfl
theorem q1066 : (Jvm.Cond.instanceMethod ({ cls := "WithinWordsModel", name := "mean", desc := "(I)I" } : Jvm.MethodName)) ∈ lw_all := lw_g (lw_at lw_m5 27 rfl) rfl
theorem q1067 : (Jvm.Cond.selects "WithinWordsModel" ({ cls := "WithinWordsModel", name := "mean", desc := "(I)I" } : Jvm.MethodName) ({ cls := "WithinWordsModel", name := "mean", desc := "(I)I" } : Jvm.MethodName)) ∈ lw_all := lw_g (lw_at lw_m5 28 rfl) rfl
theorem q1068 : (Jvm.Cond.code ({ cls := "WithinWordsModel", name := "mean", desc := "(I)I" } : Jvm.MethodName) prog_8_method_21_code (5 : Nat) (Option.some Jvm.ClassFile.FieldType.int)) ∈ lw_all := lw_g (lw_at lw_m5 29 rfl) rfl
theorem q1070 : (Jvm.Cond.instanceMethod ({ cls := "WithinWordsModel", name := "text", desc := "(II)I" } : Jvm.MethodName)) ∈ lw_all := lw_g (lw_at lw_m5 31 rfl) rfl
theorem q1071 : (Jvm.Cond.selects "WithinWordsModel" ({ cls := "WithinWordsModel", name := "text", desc := "(II)I" } : Jvm.MethodName) ({ cls := "WithinWordsModel", name := "text", desc := "(II)I" } : Jvm.MethodName)) ∈ lw_all := lw_g (lw_at lw_m5 32 rfl) rfl
theorem q1072 : (Jvm.Cond.code ({ cls := "WithinWordsModel", name := "text", desc := "(II)I" } : Jvm.MethodName) prog_8_method_23_code (4 : Nat) (Option.some Jvm.ClassFile.FieldType.int)) ∈ lw_all := lw_g (lw_at lw_m5 33 rfl) rfl
theorem q1073 : (Jvm.Cond.methodLink "WithinWordsModel" (145 : Nat) ({ cls := "WithinWordsModel", name := "isText", desc := "(I)Z" } : Jvm.MethodName)) ∈ lw_all := lw_g (lw_at lw_m5 34 rfl) rfl
theorem q1074 : (Jvm.Cond.static ({ cls := "WithinWordsModel", name := "isText", desc := "(I)Z" } : Jvm.MethodName)) ∈ lw_all := lw_g (lw_at lw_m5 35 rfl) rfl
theorem q1075 : (Jvm.Cond.code ({ cls := "WithinWordsModel", name := "isText", desc := "(I)Z" } : Jvm.MethodName) prog_8_method_22_code (1 : Nat) (Option.some Jvm.ClassFile.FieldType.boolean)) ∈ lw_all := lw_g (lw_at lw_m5 36 rfl) rfl
theorem q1077 : (Jvm.Cond.instanceMethod ({ cls := "WithinWordsModel", name := "put", desc := "(III)I" } : Jvm.MethodName)) ∈ lw_all := lw_g (lw_at lw_m5 38 rfl) rfl
theorem q1078 : (Jvm.Cond.selects "WithinWordsModel" ({ cls := "WithinWordsModel", name := "put", desc := "(III)I" } : Jvm.MethodName) ({ cls := "WithinWordsModel", name := "put", desc := "(III)I" } : Jvm.MethodName)) ∈ lw_all := lw_g (lw_at lw_m5 39 rfl) rfl
theorem q1079 : (Jvm.Cond.code ({ cls := "WithinWordsModel", name := "put", desc := "(III)I" } : Jvm.MethodName) prog_8_method_24_code (5 : Nat) (Option.some Jvm.ClassFile.FieldType.int)) ∈ lw_all := lw_g (lw_at lw_m5 40 rfl) rfl
theorem q1081 : (Jvm.Cond.instanceMethod ({ cls := "WithinWordsModel", name := "letters", desc := "(I)I" } : Jvm.MethodName)) ∈ lw_all := lw_g (lw_at lw_m5 42 rfl) rfl
theorem q1082 : (Jvm.Cond.selects "WithinWordsModel" ({ cls := "WithinWordsModel", name := "letters", desc := "(I)I" } : Jvm.MethodName) ({ cls := "WithinWordsModel", name := "letters", desc := "(I)I" } : Jvm.MethodName)) ∈ lw_all := lw_g (lw_at lw_m5 43 rfl) rfl
theorem q1083 : (Jvm.Cond.code ({ cls := "WithinWordsModel", name := "letters", desc := "(I)I" } : Jvm.MethodName) prog_8_method_30_code (4 : Nat) (Option.some Jvm.ClassFile.FieldType.int)) ∈ lw_all := lw_g (lw_at lw_m5 44 rfl) rfl
theorem q1084 : (Jvm.Cond.methodLink "WithinWordsModel" (148 : Nat) ({ cls := "WithinWordsModel", name := "at0", desc := "(II)I" } : Jvm.MethodName)) ∈ lw_all := lw_g (lw_at lw_m5 45 rfl) rfl
theorem q1085 : (Jvm.Cond.privateMethod ({ cls := "WithinWordsModel", name := "at0", desc := "(II)I" } : Jvm.MethodName)) ∈ lw_tbl := lw_at lw_m5 46 rfl
theorem q1086 : (Jvm.Cond.instanceMethod ({ cls := "WithinWordsModel", name := "at0", desc := "(II)I" } : Jvm.MethodName)) ∈ lw_all := lw_g (lw_at lw_m5 47 rfl) rfl
theorem q1087 : (Jvm.Cond.code ({ cls := "WithinWordsModel", name := "at0", desc := "(II)I" } : Jvm.MethodName) prog_8_method_28_code (3 : Nat) (Option.some Jvm.ClassFile.FieldType.int)) ∈ lw_all := lw_g (lw_at lw_m5 48 rfl) rfl
theorem q1089 : (Jvm.Cond.instanceMethod ({ cls := "WithinWordsModel", name := "word", desc := "(II)I" } : Jvm.MethodName)) ∈ lw_all := lw_g (lw_at lw_m5 50 rfl) rfl
theorem q1090 : (Jvm.Cond.selects "WithinWordsModel" ({ cls := "WithinWordsModel", name := "word", desc := "(II)I" } : Jvm.MethodName) ({ cls := "WithinWordsModel", name := "word", desc := "(II)I" } : Jvm.MethodName)) ∈ lw_all := lw_g (lw_at lw_m5 51 rfl) rfl
theorem q1091 : (Jvm.Cond.code ({ cls := "WithinWordsModel", name := "word", desc := "(II)I" } : Jvm.MethodName) prog_8_method_33_code (5 : Nat) (Option.some Jvm.ClassFile.FieldType.int)) ∈ lw_all := lw_g (lw_at lw_m5 52 rfl) rfl
theorem q1092 : (Jvm.Cond.methodLink "WithinWordsModel" (154 : Nat) ({ cls := "WithinWordsModel", name := "isWord", desc := "(I)Z" } : Jvm.MethodName)) ∈ lw_all := lw_g (lw_at lw_m5 53 rfl) rfl
theorem q1093 : (Jvm.Cond.static ({ cls := "WithinWordsModel", name := "isWord", desc := "(I)Z" } : Jvm.MethodName)) ∈ lw_all := lw_g (lw_at lw_m5 54 rfl) rfl
theorem q1094 : (Jvm.Cond.code ({ cls := "WithinWordsModel", name := "isWord", desc := "(I)Z" } : Jvm.MethodName) prog_8_method_26_code (1 : Nat) (Option.some Jvm.ClassFile.FieldType.boolean)) ∈ lw_all := lw_g (lw_at lw_m5 55 rfl) rfl
theorem q1095 : (Jvm.Cond.methodLink "WithinWordsModel" (157 : Nat) ({ cls := "WithinWordsModel", name := "isLetter", desc := "(I)Z" } : Jvm.MethodName)) ∈ lw_all := lw_g (lw_at lw_m5 56 rfl) rfl
theorem q1096 : (Jvm.Cond.privateMethod ({ cls := "WithinWordsModel", name := "isLetter", desc := "(I)Z" } : Jvm.MethodName)) ∈ lw_tbl := lw_at lw_m5 57 rfl
theorem q1097 : (Jvm.Cond.instanceMethod ({ cls := "WithinWordsModel", name := "isLetter", desc := "(I)Z" } : Jvm.MethodName)) ∈ lw_all := lw_g (lw_at lw_m5 58 rfl) rfl
theorem q1098 : (Jvm.Cond.code ({ cls := "WithinWordsModel", name := "isLetter", desc := "(I)Z" } : Jvm.MethodName) prog_8_method_29_code (2 : Nat) (Option.some Jvm.ClassFile.FieldType.boolean)) ∈ lw_all := lw_g (lw_at lw_m5 59 rfl) rfl
theorem q1099 : (Jvm.Cond.methodLink "WithinWordsModel" (160 : Nat) ({ cls := "WithinWordsModel", name := "comes", desc := "(IIII)I" } : Jvm.MethodName)) ∈ lw_all := lw_g (lw_at lw_m5 60 rfl) rfl
theorem q1100 : (Jvm.Cond.privateMethod ({ cls := "WithinWordsModel", name := "comes", desc := "(IIII)I" } : Jvm.MethodName)) ∈ lw_tbl := lw_at lw_m5 61 rfl
theorem q1101 : (Jvm.Cond.instanceMethod ({ cls := "WithinWordsModel", name := "comes", desc := "(IIII)I" } : Jvm.MethodName)) ∈ lw_all := lw_g (lw_at lw_m5 62 rfl) rfl
theorem q1102 : (Jvm.Cond.code ({ cls := "WithinWordsModel", name := "comes", desc := "(IIII)I" } : Jvm.MethodName) prog_8_method_31_code (6 : Nat) (Option.some Jvm.ClassFile.FieldType.int)) ∈ lw_all := lw_g (lw_at lw_m5 63 rfl) rfl
theorem q1104 : (Jvm.Cond.instanceMethod ({ cls := "WithinWordsModel", name := "fault", desc := "(I)I" } : Jvm.MethodName)) ∈ lw_all := lw_g (lw_at lw_m5 65 rfl) rfl
theorem q1105 : (Jvm.Cond.selects "WithinWordsModel" ({ cls := "WithinWordsModel", name := "fault", desc := "(I)I" } : Jvm.MethodName) ({ cls := "WithinWordsModel", name := "fault", desc := "(I)I" } : Jvm.MethodName)) ∈ lw_all := lw_g (lw_at lw_m5 66 rfl) rfl
theorem q1106 : (Jvm.Cond.code ({ cls := "WithinWordsModel", name := "fault", desc := "(I)I" } : Jvm.MethodName) prog_8_method_38_code (2 : Nat) (Option.some Jvm.ClassFile.FieldType.int)) ∈ lw_all := lw_g (lw_at lw_m5 67 rfl) rfl
theorem q1107 : (Jvm.Cond.methodLink "WithinWordsModel" (182 : Nat) ({ cls := "WithinWordsModel", name := "faultOf", desc := "(I)I" } : Jvm.MethodName)) ∈ lw_all := lw_g (lw_at lw_m5 68 rfl) rfl
theorem q1108 : (Jvm.Cond.privateMethod ({ cls := "WithinWordsModel", name := "faultOf", desc := "(I)I" } : Jvm.MethodName)) ∈ lw_tbl := lw_at lw_m5 69 rfl
theorem q1109 : (Jvm.Cond.instanceMethod ({ cls := "WithinWordsModel", name := "faultOf", desc := "(I)I" } : Jvm.MethodName)) ∈ lw_all := lw_g (lw_at lw_m5 70 rfl) rfl
theorem q1110 : (Jvm.Cond.code ({ cls := "WithinWordsModel", name := "faultOf", desc := "(I)I" } : Jvm.MethodName) prog_8_method_37_code (8 : Nat) (Option.some Jvm.ClassFile.FieldType.int)) ∈ lw_all := lw_g (lw_at lw_m5 71 rfl) rfl
theorem q1111 : (Jvm.Cond.methodLink "WithinWordsModel" (172 : Nat) ({ cls := "WithinWordsModel", name := "byteAt", desc := "(II)I" } : Jvm.MethodName)) ∈ lw_all := lw_g (lw_at lw_m5 72 rfl) rfl
theorem q1112 : (Jvm.Cond.privateMethod ({ cls := "WithinWordsModel", name := "byteAt", desc := "(II)I" } : Jvm.MethodName)) ∈ lw_tbl := lw_at lw_m5 73 rfl
theorem q1113 : (Jvm.Cond.instanceMethod ({ cls := "WithinWordsModel", name := "byteAt", desc := "(II)I" } : Jvm.MethodName)) ∈ lw_all := lw_g (lw_at lw_m5 74 rfl) rfl
theorem q1114 : (Jvm.Cond.code ({ cls := "WithinWordsModel", name := "byteAt", desc := "(II)I" } : Jvm.MethodName) prog_8_method_25_code (3 : Nat) (Option.some Jvm.ClassFile.FieldType.int)) ∈ lw_all := lw_g (lw_at lw_m5 75 rfl) rfl
theorem q1115 : (Jvm.Cond.methodLink "WithinWordsModel" (168 : Nat) ({ cls := "WithinWordsModel", name := "comesOn", desc := "(I)V" } : Jvm.MethodName)) ∈ lw_all := lw_g (lw_at lw_m5 76 rfl) rfl
theorem q1116 : (Jvm.Cond.privateMethod ({ cls := "WithinWordsModel", name := "comesOn", desc := "(I)V" } : Jvm.MethodName)) ∈ lw_tbl := lw_at lw_m5 77 rfl
theorem q1117 : (Jvm.Cond.instanceMethod ({ cls := "WithinWordsModel", name := "comesOn", desc := "(I)V" } : Jvm.MethodName)) ∈ lw_all := lw_g (lw_at lw_m5 78 rfl) rfl
theorem q1118 : (Jvm.Cond.code ({ cls := "WithinWordsModel", name := "comesOn", desc := "(I)V" } : Jvm.MethodName) prog_8_method_34_code (2 : Nat) (Option.none : Option Jvm.ClassFile.FieldType)) ∈ lw_all := lw_g (lw_at lw_m5 79 rfl) rfl
theorem q1119 : (Jvm.Cond.methodLink "WithinWordsModel" (175 : Nat) ({ cls := "WithinWordsModel", name := "figureAt", desc := "(II)I" } : Jvm.MethodName)) ∈ lw_all := lw_g (lw_at lw_m5 80 rfl) rfl
theorem q1120 : (Jvm.Cond.privateMethod ({ cls := "WithinWordsModel", name := "figureAt", desc := "(II)I" } : Jvm.MethodName)) ∈ lw_tbl := lw_at lw_m5 81 rfl
theorem q1121 : (Jvm.Cond.instanceMethod ({ cls := "WithinWordsModel", name := "figureAt", desc := "(II)I" } : Jvm.MethodName)) ∈ lw_all := lw_g (lw_at lw_m5 82 rfl) rfl
theorem q1122 : (Jvm.Cond.code ({ cls := "WithinWordsModel", name := "figureAt", desc := "(II)I" } : Jvm.MethodName) prog_8_method_36_code (3 : Nat) (Option.some Jvm.ClassFile.FieldType.int)) ∈ lw_all := lw_g (lw_at lw_m5 83 rfl) rfl
theorem q1123 : (Jvm.Cond.methodLink "WithinWordsModel" (178 : Nat) ({ cls := "WithinWordsModel", name := "comesAgain", desc := "(II)V" } : Jvm.MethodName)) ∈ lw_all := lw_g (lw_at lw_m5 84 rfl) rfl
theorem q1124 : (Jvm.Cond.privateMethod ({ cls := "WithinWordsModel", name := "comesAgain", desc := "(II)V" } : Jvm.MethodName)) ∈ lw_tbl := lw_at lw_m5 85 rfl
theorem q1125 : (Jvm.Cond.instanceMethod ({ cls := "WithinWordsModel", name := "comesAgain", desc := "(II)V" } : Jvm.MethodName)) ∈ lw_all := lw_g (lw_at lw_m5 86 rfl) rfl
theorem q1126 : (Jvm.Cond.code ({ cls := "WithinWordsModel", name := "comesAgain", desc := "(II)V" } : Jvm.MethodName) prog_8_method_35_code (6 : Nat) (Option.none : Option Jvm.ClassFile.FieldType)) ∈ lw_all := lw_g (lw_at lw_m5 87 rfl) rfl
theorem q1128 : (Jvm.Cond.instanceMethod ({ cls := "WithinWordsModel", name := "tell", desc := "(II)I" } : Jvm.MethodName)) ∈ lw_all := lw_g (lw_at lw_m5 89 rfl) rfl
theorem q1129 : (Jvm.Cond.selects "WithinWordsModel" ({ cls := "WithinWordsModel", name := "tell", desc := "(II)I" } : Jvm.MethodName) ({ cls := "WithinWordsModel", name := "tell", desc := "(II)I" } : Jvm.MethodName)) ∈ lw_all := lw_g (lw_at lw_m5 90 rfl) rfl
theorem q1130 : (Jvm.Cond.code ({ cls := "WithinWordsModel", name := "tell", desc := "(II)I" } : Jvm.MethodName) prog_8_method_39_code (3 : Nat) (Option.some Jvm.ClassFile.FieldType.int)) ∈ lw_all := lw_g (lw_at lw_m5 91 rfl) rfl
theorem q1132 : (Jvm.Cond.instanceMethod ({ cls := "WithinWordsModel", name := "join", desc := "(III)I" } : Jvm.MethodName)) ∈ lw_all := lw_g (lw_at lw_m5 93 rfl) rfl
theorem q1133 : (Jvm.Cond.selects "WithinWordsModel" ({ cls := "WithinWordsModel", name := "join", desc := "(III)I" } : Jvm.MethodName) ({ cls := "WithinWordsModel", name := "join", desc := "(III)I" } : Jvm.MethodName)) ∈ lw_all := lw_g (lw_at lw_m5 94 rfl) rfl
theorem q1134 : (Jvm.Cond.code ({ cls := "WithinWordsModel", name := "join", desc := "(III)I" } : Jvm.MethodName) prog_8_method_42_code (7 : Nat) (Option.some Jvm.ClassFile.FieldType.int)) ∈ lw_all := lw_g (lw_at lw_m5 95 rfl) rfl
theorem q1135 : (Jvm.Cond.methodLink "WithinWordsModel" (188 : Nat) ({ cls := "WithinWordsModel", name := "needTwo", desc := "(ZII)I" } : Jvm.MethodName)) ∈ lw_all := lw_g (lw_at lw_m5 96 rfl) rfl
theorem q1136 : (Jvm.Cond.privateMethod ({ cls := "WithinWordsModel", name := "needTwo", desc := "(ZII)I" } : Jvm.MethodName)) ∈ lw_tbl := lw_at lw_m5 97 rfl
theorem q1137 : (Jvm.Cond.instanceMethod ({ cls := "WithinWordsModel", name := "needTwo", desc := "(ZII)I" } : Jvm.MethodName)) ∈ lw_all := lw_g (lw_at lw_m5 98 rfl) rfl
theorem q1138 : (Jvm.Cond.code ({ cls := "WithinWordsModel", name := "needTwo", desc := "(ZII)I" } : Jvm.MethodName) prog_8_method_41_code (4 : Nat) (Option.some Jvm.ClassFile.FieldType.int)) ∈ lw_all := lw_g (lw_at lw_m5 99 rfl) rfl
theorem q1139 : (Jvm.Cond.methodLink "WithinWordsModel" (185 : Nat) ({ cls := "WithinWordsModel", name := "isThere", desc := "(I)Z" } : Jvm.MethodName)) ∈ lw_all := lw_g (lw_at lw_m5 100 rfl) rfl
theorem q1140 : (Jvm.Cond.privateMethod ({ cls := "WithinWordsModel", name := "isThere", desc := "(I)Z" } : Jvm.MethodName)) ∈ lw_tbl := lw_at lw_m5 101 rfl
theorem q1141 : (Jvm.Cond.instanceMethod ({ cls := "WithinWordsModel", name := "isThere", desc := "(I)Z" } : Jvm.MethodName)) ∈ lw_all := lw_g (lw_at lw_m5 102 rfl) rfl
theorem q1142 : (Jvm.Cond.code ({ cls := "WithinWordsModel", name := "isThere", desc := "(I)Z" } : Jvm.MethodName) prog_8_method_27_code (2 : Nat) (Option.some Jvm.ClassFile.FieldType.boolean)) ∈ lw_all := lw_g (lw_at lw_m5 103 rfl) rfl
theorem q1144 : (Jvm.Cond.instanceMethod ({ cls := "WithinWordsModel", name := "part", desc := "(IIII)I" } : Jvm.MethodName)) ∈ lw_all := lw_g (lw_at lw_m5 105 rfl) rfl
theorem q1145 : (Jvm.Cond.selects "WithinWordsModel" ({ cls := "WithinWordsModel", name := "part", desc := "(IIII)I" } : Jvm.MethodName) ({ cls := "WithinWordsModel", name := "part", desc := "(IIII)I" } : Jvm.MethodName)) ∈ lw_all := lw_g (lw_at lw_m5 106 rfl) rfl
theorem q1146 : (Jvm.Cond.code ({ cls := "WithinWordsModel", name := "part", desc := "(IIII)I" } : Jvm.MethodName) prog_8_method_43_code (6 : Nat) (Option.some Jvm.ClassFile.FieldType.int)) ∈ lw_all := lw_g (lw_at lw_m5 107 rfl) rfl
theorem q1148 : (Jvm.Cond.instanceMethod ({ cls := "WithinWordsModel", name := "turn", desc := "(III)I" } : Jvm.MethodName)) ∈ lw_all := lw_g (lw_at lw_m5 109 rfl) rfl
theorem q1149 : (Jvm.Cond.selects "WithinWordsModel" ({ cls := "WithinWordsModel", name := "turn", desc := "(III)I" } : Jvm.MethodName) ({ cls := "WithinWordsModel", name := "turn", desc := "(III)I" } : Jvm.MethodName)) ∈ lw_all := lw_g (lw_at lw_m5 110 rfl) rfl
theorem q1150 : (Jvm.Cond.code ({ cls := "WithinWordsModel", name := "turn", desc := "(III)I" } : Jvm.MethodName) prog_8_method_44_code (6 : Nat) (Option.some Jvm.ClassFile.FieldType.int)) ∈ lw_all := lw_g (lw_at lw_m5 111 rfl) rfl
theorem q1151 : (Jvm.Cond.methodLink "WithinWordsModel" (192 : Nat) ({ cls := "WithinWordsModel", name := "needWord", desc := "(ZI)I" } : Jvm.MethodName)) ∈ lw_all := lw_g (lw_at lw_m5 112 rfl) rfl
theorem q1152 : (Jvm.Cond.privateMethod ({ cls := "WithinWordsModel", name := "needWord", desc := "(ZI)I" } : Jvm.MethodName)) ∈ lw_tbl := lw_at lw_m5 113 rfl
theorem q1153 : (Jvm.Cond.instanceMethod ({ cls := "WithinWordsModel", name := "needWord", desc := "(ZI)I" } : Jvm.MethodName)) ∈ lw_all := lw_g (lw_at lw_m5 114 rfl) rfl
theorem q1154 : (Jvm.Cond.code ({ cls := "WithinWordsModel", name := "needWord", desc := "(ZI)I" } : Jvm.MethodName) prog_8_method_40_code (3 : Nat) (Option.some Jvm.ClassFile.FieldType.int)) ∈ lw_all := lw_g (lw_at lw_m5 115 rfl) rfl
theorem q1156 : (Jvm.Cond.instanceMethod ({ cls := "WithinWordsModel", name := "erase", desc := "(I)I" } : Jvm.MethodName)) ∈ lw_all := lw_g (lw_at lw_m5 117 rfl) rfl
theorem q1157 : (Jvm.Cond.selects "WithinWordsModel" ({ cls := "WithinWordsModel", name := "erase", desc := "(I)I" } : Jvm.MethodName) ({ cls := "WithinWordsModel", name := "erase", desc := "(I)I" } : Jvm.MethodName)) ∈ lw_all := lw_g (lw_at lw_m5 118 rfl) rfl
theorem q1158 : (Jvm.Cond.code ({ cls := "WithinWordsModel", name := "erase", desc := "(I)I" } : Jvm.MethodName) prog_8_method_45_code (3 : Nat) (Option.some Jvm.ClassFile.FieldType.int)) ∈ lw_all := lw_g (lw_at lw_m5 119 rfl) rfl
theorem q1160 : (Jvm.Cond.instanceMethod ({ cls := "WithinWordsModel", name := "size", desc := "(I)I" } : Jvm.MethodName)) ∈ lw_all := lw_g (lw_at lw_m5 121 rfl) rfl
theorem q1161 : (Jvm.Cond.selects "WithinWordsModel" ({ cls := "WithinWordsModel", name := "size", desc := "(I)I" } : Jvm.MethodName) ({ cls := "WithinWordsModel", name := "size", desc := "(I)I" } : Jvm.MethodName)) ∈ lw_all := lw_g (lw_at lw_m5 122 rfl) rfl
theorem q1162 : (Jvm.Cond.code ({ cls := "WithinWordsModel", name := "size", desc := "(I)I" } : Jvm.MethodName) prog_8_method_46_code (3 : Nat) (Option.some Jvm.ClassFile.FieldType.int)) ∈ lw_all := lw_g (lw_at lw_m5 123 rfl) rfl
theorem q1164 : (Jvm.Cond.instanceMethod ({ cls := "WithinWordsModel", name := "letter", desc := "(II)I" } : Jvm.MethodName)) ∈ lw_all := lw_g (lw_at lw_m5 125 rfl) rfl
theorem q1165 : (Jvm.Cond.selects "WithinWordsModel" ({ cls := "WithinWordsModel", name := "letter", desc := "(II)I" } : Jvm.MethodName) ({ cls := "WithinWordsModel", name := "letter", desc := "(II)I" } : Jvm.MethodName)) ∈ lw_all := lw_g (lw_at lw_m5 126 rfl) rfl
theorem q1166 : (Jvm.Cond.code ({ cls := "WithinWordsModel", name := "letter", desc := "(II)I" } : Jvm.MethodName) prog_8_method_47_code (4 : Nat) (Option.some Jvm.ClassFile.FieldType.int)) ∈ lw_all := lw_g (lw_at lw_m5 127 rfl) rfl
theorem q1168 : (Jvm.Cond.instanceMethod ({ cls := "WithinWordsModel", name := "kind", desc := "(I)I" } : Jvm.MethodName)) ∈ lw_all := lw_g (lw_at lw_m5 129 rfl) rfl
theorem q1169 : (Jvm.Cond.selects "WithinWordsModel" ({ cls := "WithinWordsModel", name := "kind", desc := "(I)I" } : Jvm.MethodName) ({ cls := "WithinWordsModel", name := "kind", desc := "(I)I" } : Jvm.MethodName)) ∈ lw_all := lw_g (lw_at lw_m5 130 rfl) rfl
theorem q1170 : (Jvm.Cond.code ({ cls := "WithinWordsModel", name := "kind", desc := "(I)I" } : Jvm.MethodName) prog_8_method_48_code (3 : Nat) (Option.some Jvm.ClassFile.FieldType.int)) ∈ lw_all := lw_g (lw_at lw_m5 131 rfl) rfl
theorem q1172 : (Jvm.Cond.instanceMethod ({ cls := "WithinWordsModel", name := "mark", desc := "(II)I" } : Jvm.MethodName)) ∈ lw_all := lw_g (lw_at lw_m5 133 rfl) rfl
theorem q1173 : (Jvm.Cond.selects "WithinWordsModel" ({ cls := "WithinWordsModel", name := "mark", desc := "(II)I" } : Jvm.MethodName) ({ cls := "WithinWordsModel", name := "mark", desc := "(II)I" } : Jvm.MethodName)) ∈ lw_all := lw_g (lw_at lw_m5 134 rfl) rfl
theorem q1174 : (Jvm.Cond.code ({ cls := "WithinWordsModel", name := "mark", desc := "(II)I" } : Jvm.MethodName) prog_8_method_50_code (5 : Nat) (Option.some Jvm.ClassFile.FieldType.int)) ∈ lw_all := lw_g (lw_at lw_m5 135 rfl) rfl
theorem q1175 : (Jvm.Cond.methodLink "WithinWordsModel" (196 : Nat) ({ cls := "WithinWordsModel", name := "markOf", desc := "(II)I" } : Jvm.MethodName)) ∈ lw_all := lw_g (lw_at lw_m5 136 rfl) rfl
theorem q1176 : (Jvm.Cond.privateMethod ({ cls := "WithinWordsModel", name := "markOf", desc := "(II)I" } : Jvm.MethodName)) ∈ lw_tbl := lw_at lw_m5 137 rfl
theorem q1177 : (Jvm.Cond.instanceMethod ({ cls := "WithinWordsModel", name := "markOf", desc := "(II)I" } : Jvm.MethodName)) ∈ lw_all := lw_g (lw_at lw_m5 138 rfl) rfl
theorem q1178 : (Jvm.Cond.code ({ cls := "WithinWordsModel", name := "markOf", desc := "(II)I" } : Jvm.MethodName) prog_8_method_49_code (3 : Nat) (Option.some Jvm.ClassFile.FieldType.int)) ∈ lw_all := lw_g (lw_at lw_m5 139 rfl) rfl
theorem q1180 : (Jvm.Cond.instanceMethod ({ cls := "WithinWordsModel", name := "ways", desc := "(II)I" } : Jvm.MethodName)) ∈ lw_all := lw_g (lw_at lw_m5 141 rfl) rfl
theorem q1181 : (Jvm.Cond.selects "WithinWordsModel" ({ cls := "WithinWordsModel", name := "ways", desc := "(II)I" } : Jvm.MethodName) ({ cls := "WithinWordsModel", name := "ways", desc := "(II)I" } : Jvm.MethodName)) ∈ lw_all := lw_g (lw_at lw_m5 142 rfl) rfl
theorem q1182 : (Jvm.Cond.code ({ cls := "WithinWordsModel", name := "ways", desc := "(II)I" } : Jvm.MethodName) prog_8_method_52_code (6 : Nat) (Option.some Jvm.ClassFile.FieldType.int)) ∈ lw_all := lw_g (lw_at lw_m5 143 rfl) rfl
theorem q1183 : (Jvm.Cond.methodLink "WithinWordsModel" (199 : Nat) ({ cls := "WithinWordsModel", name := "layWays", desc := "(II)V" } : Jvm.MethodName)) ∈ lw_all := lw_g (lw_at lw_m5 144 rfl) rfl
theorem q1184 : (Jvm.Cond.privateMethod ({ cls := "WithinWordsModel", name := "layWays", desc := "(II)V" } : Jvm.MethodName)) ∈ lw_tbl := lw_at lw_m5 145 rfl
theorem q1185 : (Jvm.Cond.instanceMethod ({ cls := "WithinWordsModel", name := "layWays", desc := "(II)V" } : Jvm.MethodName)) ∈ lw_all := lw_g (lw_at lw_m5 146 rfl) rfl
theorem q1186 : (Jvm.Cond.code ({ cls := "WithinWordsModel", name := "layWays", desc := "(II)V" } : Jvm.MethodName) prog_8_method_53_code (5 : Nat) (Option.none : Option Jvm.ClassFile.FieldType)) ∈ lw_all := lw_g (lw_at lw_m5 147 rfl) rfl
theorem q1187 : (Jvm.Cond.methodLink "WithinWordsModel" (202 : Nat) ({ cls := "WithinWordsModel", name := "tellsMany", desc := "(JI)I" } : Jvm.MethodName)) ∈ lw_all := lw_g (lw_at lw_m5 148 rfl) rfl
theorem q1188 : (Jvm.Cond.privateMethod ({ cls := "WithinWordsModel", name := "tellsMany", desc := "(JI)I" } : Jvm.MethodName)) ∈ lw_tbl := lw_at lw_m5 149 rfl
theorem q1189 : (Jvm.Cond.instanceMethod ({ cls := "WithinWordsModel", name := "tellsMany", desc := "(JI)I" } : Jvm.MethodName)) ∈ lw_all := lw_g (lw_at lw_m5 150 rfl) rfl
theorem q1190 : (Jvm.Cond.code ({ cls := "WithinWordsModel", name := "tellsMany", desc := "(JI)I" } : Jvm.MethodName) prog_8_method_8_code (4 : Nat) (Option.some Jvm.ClassFile.FieldType.int)) ∈ lw_all := lw_g (lw_at lw_m5 151 rfl) rfl
theorem q1192 : (Jvm.Cond.instanceMethod ({ cls := "WithinWordsModel", name := "way", desc := "(IIIZ)I" } : Jvm.MethodName)) ∈ lw_all := lw_g (lw_at lw_m5 153 rfl) rfl
theorem q1193 : (Jvm.Cond.selects "WithinWordsModel" ({ cls := "WithinWordsModel", name := "way", desc := "(IIIZ)I" } : Jvm.MethodName) ({ cls := "WithinWordsModel", name := "way", desc := "(IIIZ)I" } : Jvm.MethodName)) ∈ lw_all := lw_g (lw_at lw_m5 154 rfl) rfl
theorem q1194 : (Jvm.Cond.code ({ cls := "WithinWordsModel", name := "way", desc := "(IIIZ)I" } : Jvm.MethodName) prog_8_method_55_code (7 : Nat) (Option.some Jvm.ClassFile.FieldType.int)) ∈ lw_all := lw_g (lw_at lw_m5 155 rfl) rfl
theorem q1195 : (Jvm.Cond.methodLink "WithinWordsModel" (210 : Nat) ({ cls := "WithinWordsModel", name := "layPlaces", desc := "(II)Z" } : Jvm.MethodName)) ∈ lw_all := lw_g (lw_at lw_m5 156 rfl) rfl
theorem q1196 : (Jvm.Cond.privateMethod ({ cls := "WithinWordsModel", name := "layPlaces", desc := "(II)Z" } : Jvm.MethodName)) ∈ lw_tbl := lw_at lw_m5 157 rfl
theorem q1197 : (Jvm.Cond.instanceMethod ({ cls := "WithinWordsModel", name := "layPlaces", desc := "(II)Z" } : Jvm.MethodName)) ∈ lw_all := lw_g (lw_at lw_m5 158 rfl) rfl
theorem q1198 : (Jvm.Cond.code ({ cls := "WithinWordsModel", name := "layPlaces", desc := "(II)Z" } : Jvm.MethodName) prog_8_method_54_code (7 : Nat) (Option.some Jvm.ClassFile.FieldType.boolean)) ∈ lw_all := lw_g (lw_at lw_m5 159 rfl) rfl
theorem q1199 : (Jvm.Cond.methodLink "WithinWordsModel" (206 : Nat) ({ cls := "WithinWordsModel", name := "next", desc := "(III)I" } : Jvm.MethodName)) ∈ lw_all := lw_g (lw_at lw_m5 160 rfl) rfl
theorem q1200 : (Jvm.Cond.privateMethod ({ cls := "WithinWordsModel", name := "next", desc := "(III)I" } : Jvm.MethodName)) ∈ lw_tbl := lw_at lw_m5 161 rfl
theorem q1201 : (Jvm.Cond.instanceMethod ({ cls := "WithinWordsModel", name := "next", desc := "(III)I" } : Jvm.MethodName)) ∈ lw_all := lw_g (lw_at lw_m5 162 rfl) rfl
theorem q1202 : (Jvm.Cond.code ({ cls := "WithinWordsModel", name := "next", desc := "(III)I" } : Jvm.MethodName) prog_8_method_51_code (5 : Nat) (Option.some Jvm.ClassFile.FieldType.int)) ∈ lw_all := lw_g (lw_at lw_m5 163 rfl) rfl
theorem q1203 : (Jvm.Cond.methodLink "WithinWordsModel" (214 : Nat) ({ cls := "WithinWordsModel", name := "comesToRow", desc := "(I)V" } : Jvm.MethodName)) ∈ lw_all := lw_g (lw_at lw_m5 164 rfl) rfl
theorem q1204 : (Jvm.Cond.privateMethod ({ cls := "WithinWordsModel", name := "comesToRow", desc := "(I)V" } : Jvm.MethodName)) ∈ lw_tbl := lw_at lw_m5 165 rfl
theorem q1205 : (Jvm.Cond.instanceMethod ({ cls := "WithinWordsModel", name := "comesToRow", desc := "(I)V" } : Jvm.MethodName)) ∈ lw_all := lw_g (lw_at lw_m5 166 rfl) rfl
theorem q1206 : (Jvm.Cond.code ({ cls := "WithinWordsModel", name := "comesToRow", desc := "(I)V" } : Jvm.MethodName) prog_8_method_32_code (3 : Nat) (Option.none : Option Jvm.ClassFile.FieldType)) ∈ lw_all := lw_g (lw_at lw_m5 167 rfl) rfl
theorem q1208 : (Jvm.Cond.instanceMethod ({ cls := "WithinWordsModel", name := "places", desc := "(IIZ)I" } : Jvm.MethodName)) ∈ lw_all := lw_g (lw_at lw_m5 169 rfl) rfl
theorem q1209 : (Jvm.Cond.selects "WithinWordsModel" ({ cls := "WithinWordsModel", name := "places", desc := "(IIZ)I" } : Jvm.MethodName) ({ cls := "WithinWordsModel", name := "places", desc := "(IIZ)I" } : Jvm.MethodName)) ∈ lw_all := lw_g (lw_at lw_m5 170 rfl) rfl
theorem q1210 : (Jvm.Cond.code ({ cls := "WithinWordsModel", name := "places", desc := "(IIZ)I" } : Jvm.MethodName) prog_8_method_56_code (12 : Nat) (Option.some Jvm.ClassFile.FieldType.int)) ∈ lw_all := lw_g (lw_at lw_m5 171 rfl) rfl
theorem q1212 : (Jvm.Cond.instanceMethod ({ cls := "WithinWordsModel", name := "judge", desc := "(III)I" } : Jvm.MethodName)) ∈ lw_all := lw_g (lw_at lw_m5 173 rfl) rfl
theorem q1213 : (Jvm.Cond.selects "WithinWordsModel" ({ cls := "WithinWordsModel", name := "judge", desc := "(III)I" } : Jvm.MethodName) ({ cls := "WithinWordsModel", name := "judge", desc := "(III)I" } : Jvm.MethodName)) ∈ lw_all := lw_g (lw_at lw_m5 174 rfl) rfl
theorem q1214 : (Jvm.Cond.code ({ cls := "WithinWordsModel", name := "judge", desc := "(III)I" } : Jvm.MethodName) prog_8_method_57_code (8 : Nat) (Option.some Jvm.ClassFile.FieldType.int)) ∈ lw_all := lw_g (lw_at lw_m5 175 rfl) rfl
theorem q1216 : (Jvm.Cond.instanceMethod ({ cls := "WithinWordsModel", name := "bar", desc := "(II)I" } : Jvm.MethodName)) ∈ lw_all := lw_g (lw_at lw_m5 177 rfl) rfl
theorem q1217 : (Jvm.Cond.selects "WithinWordsModel" ({ cls := "WithinWordsModel", name := "bar", desc := "(II)I" } : Jvm.MethodName) ({ cls := "WithinWordsModel", name := "bar", desc := "(II)I" } : Jvm.MethodName)) ∈ lw_all := lw_g (lw_at lw_m5 178 rfl) rfl
theorem q1218 : (Jvm.Cond.code ({ cls := "WithinWordsModel", name := "bar", desc := "(II)I" } : Jvm.MethodName) prog_8_method_58_code (7 : Nat) (Option.some Jvm.ClassFile.FieldType.int)) ∈ lw_all := lw_g (lw_at lw_m5 179 rfl) rfl
theorem q1220 : (Jvm.Cond.instanceMethod ({ cls := "WithinWordsModel", name := "inner", desc := "(II)I" } : Jvm.MethodName)) ∈ lw_all := lw_g (lw_at lw_m5 181 rfl) rfl
theorem q1221 : (Jvm.Cond.selects "WithinWordsModel" ({ cls := "WithinWordsModel", name := "inner", desc := "(II)I" } : Jvm.MethodName) ({ cls := "WithinWordsModel", name := "inner", desc := "(II)I" } : Jvm.MethodName)) ∈ lw_all := lw_g (lw_at lw_m5 182 rfl) rfl
theorem q1222 : (Jvm.Cond.code ({ cls := "WithinWordsModel", name := "inner", desc := "(II)I" } : Jvm.MethodName) prog_8_method_60_code (7 : Nat) (Option.some Jvm.ClassFile.FieldType.int)) ∈ lw_all := lw_g (lw_at lw_m5 183 rfl) rfl
theorem q1223 : (Jvm.Cond.methodLink "WithinWordsModel" (217 : Nat) ({ cls := "WithinWordsModel", name := "layInner", desc := "(I)V" } : Jvm.MethodName)) ∈ lw_all := lw_g (lw_at lw_m5 184 rfl) rfl
theorem q1224 : (Jvm.Cond.privateMethod ({ cls := "WithinWordsModel", name := "layInner", desc := "(I)V" } : Jvm.MethodName)) ∈ lw_tbl := lw_at lw_m5 185 rfl
theorem q1225 : (Jvm.Cond.instanceMethod ({ cls := "WithinWordsModel", name := "layInner", desc := "(I)V" } : Jvm.MethodName)) ∈ lw_all := lw_g (lw_at lw_m5 186 rfl) rfl
theorem q1226 : (Jvm.Cond.code ({ cls := "WithinWordsModel", name := "layInner", desc := "(I)V" } : Jvm.MethodName) prog_8_method_59_code (7 : Nat) (Option.none : Option Jvm.ClassFile.FieldType)) ∈ lw_all := lw_g (lw_at lw_m5 187 rfl) rfl
theorem q1228 : (Jvm.Cond.instanceMethod ({ cls := "WithinWordsModel", name := "rank", desc := "(II)I" } : Jvm.MethodName)) ∈ lw_all := lw_g (lw_at lw_m5 189 rfl) rfl
theorem q1229 : (Jvm.Cond.selects "WithinWordsModel" ({ cls := "WithinWordsModel", name := "rank", desc := "(II)I" } : Jvm.MethodName) ({ cls := "WithinWordsModel", name := "rank", desc := "(II)I" } : Jvm.MethodName)) ∈ lw_all := lw_g (lw_at lw_m5 190 rfl) rfl
theorem q1230 : (Jvm.Cond.code ({ cls := "WithinWordsModel", name := "rank", desc := "(II)I" } : Jvm.MethodName) prog_8_method_61_code (11 : Nat) (Option.some Jvm.ClassFile.FieldType.int)) ∈ lw_all := lw_g (lw_at lw_m5 191 rfl) rfl
theorem q1232 : (Jvm.Cond.instanceMethod ({ cls := "WithinWordsModel", name := "byRank", desc := "(IIII)I" } : Jvm.MethodName)) ∈ lw_all := lw_g (lw_at lw_m5 193 rfl) rfl
theorem q1233 : (Jvm.Cond.selects "WithinWordsModel" ({ cls := "WithinWordsModel", name := "byRank", desc := "(IIII)I" } : Jvm.MethodName) ({ cls := "WithinWordsModel", name := "byRank", desc := "(IIII)I" } : Jvm.MethodName)) ∈ lw_all := lw_g (lw_at lw_m5 194 rfl) rfl
theorem q1234 : (Jvm.Cond.code ({ cls := "WithinWordsModel", name := "byRank", desc := "(IIII)I" } : Jvm.MethodName) prog_8_method_62_code (12 : Nat) (Option.some Jvm.ClassFile.FieldType.int)) ∈ lw_all := lw_g (lw_at lw_m5 195 rfl) rfl
theorem q1235 : (Jvm.Cond.methodLink "WithinWordsModel" (220 : Nat) ({ cls := "WithinWordsModel", name := "innersBy", desc := "(IIII)J" } : Jvm.MethodName)) ∈ lw_all := lw_g (lw_at lw_m5 196 rfl) rfl
theorem q1236 : (Jvm.Cond.privateMethod ({ cls := "WithinWordsModel", name := "innersBy", desc := "(IIII)J" } : Jvm.MethodName)) ∈ lw_tbl := lw_at lw_m5 197 rfl
theorem q1237 : (Jvm.Cond.instanceMethod ({ cls := "WithinWordsModel", name := "innersBy", desc := "(IIII)J" } : Jvm.MethodName)) ∈ lw_all := lw_g (lw_at lw_m5 198 rfl) rfl
theorem q1238 : (Jvm.Cond.code ({ cls := "WithinWordsModel", name := "innersBy", desc := "(IIII)J" } : Jvm.MethodName) prog_8_method_63_code (6 : Nat) (Option.some Jvm.ClassFile.FieldType.long)) ∈ lw_all := lw_g (lw_at lw_m5 199 rfl) rfl
theorem q1240 : (Jvm.Cond.instanceMethod ({ cls := "WithinWordsModel", name := "arches", desc := "(I)I" } : Jvm.MethodName)) ∈ lw_all := lw_g (lw_at lw_m5 201 rfl) rfl
theorem q1241 : (Jvm.Cond.selects "WithinWordsModel" ({ cls := "WithinWordsModel", name := "arches", desc := "(I)I" } : Jvm.MethodName) ({ cls := "WithinWordsModel", name := "arches", desc := "(I)I" } : Jvm.MethodName)) ∈ lw_all := lw_g (lw_at lw_m5 202 rfl) rfl
theorem q1242 : (Jvm.Cond.code ({ cls := "WithinWordsModel", name := "arches", desc := "(I)I" } : Jvm.MethodName) prog_8_method_65_code (4 : Nat) (Option.some Jvm.ClassFile.FieldType.int)) ∈ lw_all := lw_g (lw_at lw_m5 203 rfl) rfl
theorem q1243 : (Jvm.Cond.methodLink "WithinWordsModel" (230 : Nat) ({ cls := "WithinWordsModel", name := "archesFrom", desc := "(II)I" } : Jvm.MethodName)) ∈ lw_all := lw_g (lw_at lw_m5 204 rfl) rfl
theorem q1244 : (Jvm.Cond.privateMethod ({ cls := "WithinWordsModel", name := "archesFrom", desc := "(II)I" } : Jvm.MethodName)) ∈ lw_tbl := lw_at lw_m5 205 rfl
theorem q1245 : (Jvm.Cond.instanceMethod ({ cls := "WithinWordsModel", name := "archesFrom", desc := "(II)I" } : Jvm.MethodName)) ∈ lw_all := lw_g (lw_at lw_m5 206 rfl) rfl
theorem q1246 : (Jvm.Cond.code ({ cls := "WithinWordsModel", name := "archesFrom", desc := "(II)I" } : Jvm.MethodName) prog_8_method_64_code (5 : Nat) (Option.some Jvm.ClassFile.FieldType.int)) ∈ lw_all := lw_g (lw_at lw_m5 207 rfl) rfl
theorem q1248 : (Jvm.Cond.instanceMethod ({ cls := "WithinWordsModel", name := "absent", desc := "(II)I" } : Jvm.MethodName)) ∈ lw_all := lw_g (lw_at lw_m5 209 rfl) rfl
theorem q1249 : (Jvm.Cond.selects "WithinWordsModel" ({ cls := "WithinWordsModel", name := "absent", desc := "(II)I" } : Jvm.MethodName) ({ cls := "WithinWordsModel", name := "absent", desc := "(II)I" } : Jvm.MethodName)) ∈ lw_all := lw_g (lw_at lw_m5 210 rfl) rfl
theorem q1250 : (Jvm.Cond.code ({ cls := "WithinWordsModel", name := "absent", desc := "(II)I" } : Jvm.MethodName) prog_8_method_69_code (7 : Nat) (Option.some Jvm.ClassFile.FieldType.int)) ∈ lw_all := lw_g (lw_at lw_m5 211 rfl) rfl
theorem q1251 : (Jvm.Cond.methodLink "WithinWordsModel" (236 : Nat) ({ cls := "WithinWordsModel", name := "layAbsent", desc := "(II)V" } : Jvm.MethodName)) ∈ lw_all := lw_g (lw_at lw_m5 212 rfl) rfl
theorem q1252 : (Jvm.Cond.privateMethod ({ cls := "WithinWordsModel", name := "layAbsent", desc := "(II)V" } : Jvm.MethodName)) ∈ lw_tbl := lw_at lw_m5 213 rfl
theorem q1253 : (Jvm.Cond.instanceMethod ({ cls := "WithinWordsModel", name := "layAbsent", desc := "(II)V" } : Jvm.MethodName)) ∈ lw_all := lw_g (lw_at lw_m5 214 rfl) rfl
theorem q1254 : (Jvm.Cond.code ({ cls := "WithinWordsModel", name := "layAbsent", desc := "(II)V" } : Jvm.MethodName) prog_8_method_68_code (7 : Nat) (Option.none : Option Jvm.ClassFile.FieldType)) ∈ lw_all := lw_g (lw_at lw_m5 215 rfl) rfl
theorem q1255 : (Jvm.Cond.methodLink "WithinWordsModel" (233 : Nat) ({ cls := "WithinWordsModel", name := "hasAll", desc := "(III)Z" } : Jvm.MethodName)) ∈ lw_all := lw_g (lw_at lw_m5 216 rfl) rfl
theorem q1256 : (Jvm.Cond.privateMethod ({ cls := "WithinWordsModel", name := "hasAll", desc := "(III)Z" } : Jvm.MethodName)) ∈ lw_tbl := lw_at lw_m5 217 rfl
theorem q1257 : (Jvm.Cond.instanceMethod ({ cls := "WithinWordsModel", name := "hasAll", desc := "(III)Z" } : Jvm.MethodName)) ∈ lw_all := lw_g (lw_at lw_m5 218 rfl) rfl
theorem q1258 : (Jvm.Cond.code ({ cls := "WithinWordsModel", name := "hasAll", desc := "(III)Z" } : Jvm.MethodName) prog_8_method_67_code (4 : Nat) (Option.some Jvm.ClassFile.FieldType.boolean)) ∈ lw_all := lw_g (lw_at lw_m5 219 rfl) rfl
theorem q1259 : (Jvm.Cond.methodLink "WithinWordsModel" (239 : Nat) ({ cls := "WithinWordsModel", name := "powerOf", desc := "(JI)J" } : Jvm.MethodName)) ∈ lw_all := lw_g (lw_at lw_m5 220 rfl) rfl
theorem q1260 : (Jvm.Cond.static ({ cls := "WithinWordsModel", name := "powerOf", desc := "(JI)J" } : Jvm.MethodName)) ∈ lw_all := lw_g (lw_at lw_m5 221 rfl) rfl
theorem q1261 : (Jvm.Cond.code ({ cls := "WithinWordsModel", name := "powerOf", desc := "(JI)J" } : Jvm.MethodName) prog_8_method_66_code (6 : Nat) (Option.some Jvm.ClassFile.FieldType.long)) ∈ lw_all := lw_g (lw_at lw_m5 222 rfl) rfl
theorem q1263 : (Jvm.Cond.instanceMethod ({ cls := "WithinWordsModel", name := "added", desc := "(II)I" } : Jvm.MethodName)) ∈ lw_all := lw_g (lw_at lw_m5 224 rfl) rfl
theorem q1264 : (Jvm.Cond.selects "WithinWordsModel" ({ cls := "WithinWordsModel", name := "added", desc := "(II)I" } : Jvm.MethodName) ({ cls := "WithinWordsModel", name := "added", desc := "(II)I" } : Jvm.MethodName)) ∈ lw_all := lw_g (lw_at lw_m5 225 rfl) rfl
theorem q1265 : (Jvm.Cond.code ({ cls := "WithinWordsModel", name := "added", desc := "(II)I" } : Jvm.MethodName) prog_8_method_70_code (7 : Nat) (Option.some Jvm.ClassFile.FieldType.int)) ∈ lw_all := lw_g (lw_at lw_m5 226 rfl) rfl
theorem q1266 : (Jvm.Cond.methodLink "WithinWordsModel" (243 : Nat) ({ cls := "WithinWordsModel", name := "has", desc := "(II)Z" } : Jvm.MethodName)) ∈ lw_all := lw_g (lw_at lw_m5 227 rfl) rfl
theorem q1267 : (Jvm.Cond.static ({ cls := "WithinWordsModel", name := "has", desc := "(II)Z" } : Jvm.MethodName)) ∈ lw_all := lw_g (lw_at lw_m5 228 rfl) rfl
theorem q1268 : (Jvm.Cond.code ({ cls := "WithinWordsModel", name := "has", desc := "(II)Z" } : Jvm.MethodName) prog_8_method_3_code (2 : Nat) (Option.some Jvm.ClassFile.FieldType.boolean)) ∈ lw_all := lw_g (lw_at lw_m5 229 rfl) rfl
theorem q1270 : (Jvm.Cond.instanceMethod ({ cls := "WithinWordsModel", name := "alike", desc := "(III)I" } : Jvm.MethodName)) ∈ lw_all := lw_g (lw_at lw_m5 231 rfl) rfl
theorem q1271 : (Jvm.Cond.selects "WithinWordsModel" ({ cls := "WithinWordsModel", name := "alike", desc := "(III)I" } : Jvm.MethodName) ({ cls := "WithinWordsModel", name := "alike", desc := "(III)I" } : Jvm.MethodName)) ∈ lw_all := lw_g (lw_at lw_m5 232 rfl) rfl
theorem q1272 : (Jvm.Cond.code ({ cls := "WithinWordsModel", name := "alike", desc := "(III)I" } : Jvm.MethodName) prog_8_method_75_code (6 : Nat) (Option.some Jvm.ClassFile.FieldType.int)) ∈ lw_all := lw_g (lw_at lw_m5 233 rfl) rfl
theorem q1273 : (Jvm.Cond.methodLink "WithinWordsModel" (255 : Nat) ({ cls := "WithinWordsModel", name := "layOther", desc := "(I)V" } : Jvm.MethodName)) ∈ lw_all := lw_g (lw_at lw_m5 234 rfl) rfl
theorem q1274 : (Jvm.Cond.privateMethod ({ cls := "WithinWordsModel", name := "layOther", desc := "(I)V" } : Jvm.MethodName)) ∈ lw_tbl := lw_at lw_m5 235 rfl
theorem q1275 : (Jvm.Cond.instanceMethod ({ cls := "WithinWordsModel", name := "layOther", desc := "(I)V" } : Jvm.MethodName)) ∈ lw_all := lw_g (lw_at lw_m5 236 rfl) rfl
theorem q1276 : (Jvm.Cond.code ({ cls := "WithinWordsModel", name := "layOther", desc := "(I)V" } : Jvm.MethodName) prog_8_method_72_code (3 : Nat) (Option.none : Option Jvm.ClassFile.FieldType)) ∈ lw_all := lw_g (lw_at lw_m5 237 rfl) rfl
theorem q1277 : (Jvm.Cond.methodLink "WithinWordsModel" (258 : Nat) ({ cls := "WithinWordsModel", name := "partsFrom", desc := "(I)I" } : Jvm.MethodName)) ∈ lw_all := lw_g (lw_at lw_m5 238 rfl) rfl
theorem q1278 : (Jvm.Cond.privateMethod ({ cls := "WithinWordsModel", name := "partsFrom", desc := "(I)I" } : Jvm.MethodName)) ∈ lw_tbl := lw_at lw_m5 239 rfl
theorem q1279 : (Jvm.Cond.instanceMethod ({ cls := "WithinWordsModel", name := "partsFrom", desc := "(I)I" } : Jvm.MethodName)) ∈ lw_all := lw_g (lw_at lw_m6 0 rfl) rfl
theorem q1280 : (Jvm.Cond.code ({ cls := "WithinWordsModel", name := "partsFrom", desc := "(I)I" } : Jvm.MethodName) prog_8_method_73_code (10 : Nat) (Option.some Jvm.ClassFile.FieldType.int)) ∈ lw_all := lw_g (lw_at lw_m6 1 rfl) rfl
theorem q1281 : (Jvm.Cond.methodLink "WithinWordsModel" (249 : Nat) ({ cls := "WithinWordsModel", name := "nextOther", desc := "(II)I" } : Jvm.MethodName)) ∈ lw_all := lw_g (lw_at lw_m6 2 rfl) rfl
theorem q1282 : (Jvm.Cond.privateMethod ({ cls := "WithinWordsModel", name := "nextOther", desc := "(II)I" } : Jvm.MethodName)) ∈ lw_tbl := lw_at lw_m6 3 rfl
theorem q1283 : (Jvm.Cond.instanceMethod ({ cls := "WithinWordsModel", name := "nextOther", desc := "(II)I" } : Jvm.MethodName)) ∈ lw_all := lw_g (lw_at lw_m6 4 rfl) rfl
theorem q1284 : (Jvm.Cond.code ({ cls := "WithinWordsModel", name := "nextOther", desc := "(II)I" } : Jvm.MethodName) prog_8_method_71_code (4 : Nat) (Option.some Jvm.ClassFile.FieldType.int)) ∈ lw_all := lw_g (lw_at lw_m6 5 rfl) rfl
theorem q1285 : (Jvm.Cond.methodLink "WithinWordsModel" (252 : Nat) ({ cls := "WithinWordsModel", name := "layPart", desc := "(II)I" } : Jvm.MethodName)) ∈ lw_all := lw_g (lw_at lw_m6 6 rfl) rfl
theorem q1286 : (Jvm.Cond.privateMethod ({ cls := "WithinWordsModel", name := "layPart", desc := "(II)I" } : Jvm.MethodName)) ∈ lw_tbl := lw_at lw_m6 7 rfl
theorem q1287 : (Jvm.Cond.instanceMethod ({ cls := "WithinWordsModel", name := "layPart", desc := "(II)I" } : Jvm.MethodName)) ∈ lw_all := lw_g (lw_at lw_m6 8 rfl) rfl
theorem q1288 : (Jvm.Cond.code ({ cls := "WithinWordsModel", name := "layPart", desc := "(II)I" } : Jvm.MethodName) prog_8_method_74_code (6 : Nat) (Option.some Jvm.ClassFile.FieldType.int)) ∈ lw_all := lw_g (lw_at lw_m6 9 rfl) rfl
theorem q1290 : (Jvm.Cond.instanceMethod ({ cls := "WithinWordsModel", name := "parting", desc := "(III)I" } : Jvm.MethodName)) ∈ lw_all := lw_g (lw_at lw_m6 11 rfl) rfl
theorem q1291 : (Jvm.Cond.selects "WithinWordsModel" ({ cls := "WithinWordsModel", name := "parting", desc := "(III)I" } : Jvm.MethodName) ({ cls := "WithinWordsModel", name := "parting", desc := "(III)I" } : Jvm.MethodName)) ∈ lw_all := lw_g (lw_at lw_m6 12 rfl) rfl
theorem q1292 : (Jvm.Cond.code ({ cls := "WithinWordsModel", name := "parting", desc := "(III)I" } : Jvm.MethodName) prog_8_method_76_code (6 : Nat) (Option.some Jvm.ClassFile.FieldType.int)) ∈ lw_all := lw_g (lw_at lw_m6 13 rfl) rfl
theorem q1294 : (Jvm.Cond.instanceMethod ({ cls := "WithinWordsModel", name := "drop", desc := "(III)I" } : Jvm.MethodName)) ∈ lw_all := lw_g (lw_at lw_m6 15 rfl) rfl
theorem q1295 : (Jvm.Cond.selects "WithinWordsModel" ({ cls := "WithinWordsModel", name := "drop", desc := "(III)I" } : Jvm.MethodName) ({ cls := "WithinWordsModel", name := "drop", desc := "(III)I" } : Jvm.MethodName)) ∈ lw_all := lw_g (lw_at lw_m6 16 rfl) rfl
theorem q1296 : (Jvm.Cond.code ({ cls := "WithinWordsModel", name := "drop", desc := "(III)I" } : Jvm.MethodName) prog_8_method_77_code (8 : Nat) (Option.some Jvm.ClassFile.FieldType.int)) ∈ lw_all := lw_g (lw_at lw_m6 17 rfl) rfl
theorem q1297 : (Jvm.Cond.methodLink "WithinWordsModel" (261 : Nat) ({ cls := "WithinWordsModel", name := "dropOther", desc := "(I)V" } : Jvm.MethodName)) ∈ lw_all := lw_g (lw_at lw_m6 18 rfl) rfl
theorem q1298 : (Jvm.Cond.privateMethod ({ cls := "WithinWordsModel", name := "dropOther", desc := "(I)V" } : Jvm.MethodName)) ∈ lw_tbl := lw_at lw_m6 19 rfl
theorem q1299 : (Jvm.Cond.instanceMethod ({ cls := "WithinWordsModel", name := "dropOther", desc := "(I)V" } : Jvm.MethodName)) ∈ lw_all := lw_g (lw_at lw_m6 20 rfl) rfl
theorem q1300 : (Jvm.Cond.code ({ cls := "WithinWordsModel", name := "dropOther", desc := "(I)V" } : Jvm.MethodName) prog_8_method_78_code (3 : Nat) (Option.none : Option Jvm.ClassFile.FieldType)) ∈ lw_all := lw_g (lw_at lw_m6 21 rfl) rfl
theorem q1301 : (Jvm.Cond.methodLink "WithinWordsModel" (264 : Nat) ({ cls := "WithinWordsModel", name := "backOther", desc := "(II)V" } : Jvm.MethodName)) ∈ lw_all := lw_g (lw_at lw_m6 22 rfl) rfl
theorem q1302 : (Jvm.Cond.privateMethod ({ cls := "WithinWordsModel", name := "backOther", desc := "(II)V" } : Jvm.MethodName)) ∈ lw_tbl := lw_at lw_m6 23 rfl
theorem q1303 : (Jvm.Cond.instanceMethod ({ cls := "WithinWordsModel", name := "backOther", desc := "(II)V" } : Jvm.MethodName)) ∈ lw_all := lw_g (lw_at lw_m6 24 rfl) rfl
theorem q1304 : (Jvm.Cond.code ({ cls := "WithinWordsModel", name := "backOther", desc := "(II)V" } : Jvm.MethodName) prog_8_method_79_code (4 : Nat) (Option.none : Option Jvm.ClassFile.FieldType)) ∈ lw_all := lw_g (lw_at lw_m6 25 rfl) rfl
theorem q1306 : (Jvm.Cond.instanceMethod ({ cls := "WithinWordsModel", name := "common", desc := "(II)I" } : Jvm.MethodName)) ∈ lw_all := lw_g (lw_at lw_m6 27 rfl) rfl
theorem q1307 : (Jvm.Cond.selects "WithinWordsModel" ({ cls := "WithinWordsModel", name := "common", desc := "(II)I" } : Jvm.MethodName) ({ cls := "WithinWordsModel", name := "common", desc := "(II)I" } : Jvm.MethodName)) ∈ lw_all := lw_g (lw_at lw_m6 28 rfl) rfl
theorem q1308 : (Jvm.Cond.code ({ cls := "WithinWordsModel", name := "common", desc := "(II)I" } : Jvm.MethodName) prog_8_method_87_code (8 : Nat) (Option.some Jvm.ClassFile.FieldType.int)) ∈ lw_all := lw_g (lw_at lw_m6 29 rfl) rfl
theorem q1309 : (Jvm.Cond.methodLink "WithinWordsModel" (280 : Nat) ({ cls := "WithinWordsModel", name := "needSeveral", desc := "(II)I" } : Jvm.MethodName)) ∈ lw_all := lw_g (lw_at lw_m6 30 rfl) rfl
theorem q1310 : (Jvm.Cond.privateMethod ({ cls := "WithinWordsModel", name := "needSeveral", desc := "(II)I" } : Jvm.MethodName)) ∈ lw_tbl := lw_at lw_m6 31 rfl
theorem q1311 : (Jvm.Cond.instanceMethod ({ cls := "WithinWordsModel", name := "needSeveral", desc := "(II)I" } : Jvm.MethodName)) ∈ lw_all := lw_g (lw_at lw_m6 32 rfl) rfl
theorem q1312 : (Jvm.Cond.code ({ cls := "WithinWordsModel", name := "needSeveral", desc := "(II)I" } : Jvm.MethodName) prog_8_method_81_code (6 : Nat) (Option.some Jvm.ClassFile.FieldType.int)) ∈ lw_all := lw_g (lw_at lw_m6 33 rfl) rfl
theorem q1313 : (Jvm.Cond.methodLink "WithinWordsModel" (267 : Nat) ({ cls := "WithinWordsModel", name := "bits", desc := "(I)I" } : Jvm.MethodName)) ∈ lw_all := lw_g (lw_at lw_m6 34 rfl) rfl
theorem q1314 : (Jvm.Cond.static ({ cls := "WithinWordsModel", name := "bits", desc := "(I)I" } : Jvm.MethodName)) ∈ lw_all := lw_g (lw_at lw_m6 35 rfl) rfl
theorem q1315 : (Jvm.Cond.code ({ cls := "WithinWordsModel", name := "bits", desc := "(I)I" } : Jvm.MethodName) prog_8_method_80_code (3 : Nat) (Option.some Jvm.ClassFile.FieldType.int)) ∈ lw_all := lw_g (lw_at lw_m6 36 rfl) rfl
theorem q1316 : (Jvm.Cond.methodLink "WithinWordsModel" (283 : Nat) ({ cls := "WithinWordsModel", name := "allCodes", desc := "()I" } : Jvm.MethodName)) ∈ lw_all := lw_g (lw_at lw_m6 37 rfl) rfl
theorem q1317 : (Jvm.Cond.privateMethod ({ cls := "WithinWordsModel", name := "allCodes", desc := "()I" } : Jvm.MethodName)) ∈ lw_tbl := lw_at lw_m6 38 rfl
theorem q1318 : (Jvm.Cond.instanceMethod ({ cls := "WithinWordsModel", name := "allCodes", desc := "()I" } : Jvm.MethodName)) ∈ lw_all := lw_g (lw_at lw_m6 39 rfl) rfl
theorem q1319 : (Jvm.Cond.code ({ cls := "WithinWordsModel", name := "allCodes", desc := "()I" } : Jvm.MethodName) prog_8_method_83_code (3 : Nat) (Option.some Jvm.ClassFile.FieldType.int)) ∈ lw_all := lw_g (lw_at lw_m6 40 rfl) rfl
theorem q1320 : (Jvm.Cond.methodLink "WithinWordsModel" (286 : Nat) ({ cls := "WithinWordsModel", name := "behindNext", desc := "(II)I" } : Jvm.MethodName)) ∈ lw_all := lw_g (lw_at lw_m6 41 rfl) rfl
theorem q1321 : (Jvm.Cond.privateMethod ({ cls := "WithinWordsModel", name := "behindNext", desc := "(II)I" } : Jvm.MethodName)) ∈ lw_tbl := lw_at lw_m6 42 rfl
theorem q1322 : (Jvm.Cond.instanceMethod ({ cls := "WithinWordsModel", name := "behindNext", desc := "(II)I" } : Jvm.MethodName)) ∈ lw_all := lw_g (lw_at lw_m6 43 rfl) rfl
theorem q1323 : (Jvm.Cond.code ({ cls := "WithinWordsModel", name := "behindNext", desc := "(II)I" } : Jvm.MethodName) prog_8_method_85_code (6 : Nat) (Option.some Jvm.ClassFile.FieldType.int)) ∈ lw_all := lw_g (lw_at lw_m6 44 rfl) rfl
theorem q1324 : (Jvm.Cond.methodLink "WithinWordsModel" (273 : Nat) ({ cls := "WithinWordsModel", name := "layAt", desc := "(I)V" } : Jvm.MethodName)) ∈ lw_all := lw_g (lw_at lw_m6 45 rfl) rfl
theorem q1325 : (Jvm.Cond.privateMethod ({ cls := "WithinWordsModel", name := "layAt", desc := "(I)V" } : Jvm.MethodName)) ∈ lw_tbl := lw_at lw_m6 46 rfl
theorem q1326 : (Jvm.Cond.instanceMethod ({ cls := "WithinWordsModel", name := "layAt", desc := "(I)V" } : Jvm.MethodName)) ∈ lw_all := lw_g (lw_at lw_m6 47 rfl) rfl
theorem q1327 : (Jvm.Cond.code ({ cls := "WithinWordsModel", name := "layAt", desc := "(I)V" } : Jvm.MethodName) prog_8_method_84_code (4 : Nat) (Option.none : Option Jvm.ClassFile.FieldType)) ∈ lw_all := lw_g (lw_at lw_m6 48 rfl) rfl
theorem q1328 : (Jvm.Cond.methodLink "WithinWordsModel" (276 : Nat) ({ cls := "WithinWordsModel", name := "code", desc := "()I" } : Jvm.MethodName)) ∈ lw_all := lw_g (lw_at lw_m6 49 rfl) rfl
theorem q1329 : (Jvm.Cond.privateMethod ({ cls := "WithinWordsModel", name := "code", desc := "()I" } : Jvm.MethodName)) ∈ lw_tbl := lw_at lw_m6 50 rfl
theorem q1330 : (Jvm.Cond.instanceMethod ({ cls := "WithinWordsModel", name := "code", desc := "()I" } : Jvm.MethodName)) ∈ lw_all := lw_g (lw_at lw_m6 51 rfl) rfl
theorem q1331 : (Jvm.Cond.code ({ cls := "WithinWordsModel", name := "code", desc := "()I" } : Jvm.MethodName) prog_8_method_82_code (3 : Nat) (Option.some Jvm.ClassFile.FieldType.int)) ∈ lw_all := lw_g (lw_at lw_m6 52 rfl) rfl
theorem q1333 : (Jvm.Cond.instanceMethod ({ cls := "WithinWordsModel", name := "cover", desc := "(II)I" } : Jvm.MethodName)) ∈ lw_all := lw_g (lw_at lw_m6 54 rfl) rfl
theorem q1334 : (Jvm.Cond.selects "WithinWordsModel" ({ cls := "WithinWordsModel", name := "cover", desc := "(II)I" } : Jvm.MethodName) ({ cls := "WithinWordsModel", name := "cover", desc := "(II)I" } : Jvm.MethodName)) ∈ lw_all := lw_g (lw_at lw_m6 55 rfl) rfl
theorem q1335 : (Jvm.Cond.code ({ cls := "WithinWordsModel", name := "cover", desc := "(II)I" } : Jvm.MethodName) prog_8_method_88_code (10 : Nat) (Option.some Jvm.ClassFile.FieldType.int)) ∈ lw_all := lw_g (lw_at lw_m6 56 rfl) rfl
theorem q1336 : (Jvm.Cond.methodLink "WithinWordsModel" (289 : Nat) ({ cls := "WithinWordsModel", name := "behindHere", desc := "(II)I" } : Jvm.MethodName)) ∈ lw_all := lw_g (lw_at lw_m6 57 rfl) rfl
theorem q1337 : (Jvm.Cond.privateMethod ({ cls := "WithinWordsModel", name := "behindHere", desc := "(II)I" } : Jvm.MethodName)) ∈ lw_tbl := lw_at lw_m6 58 rfl
theorem q1338 : (Jvm.Cond.instanceMethod ({ cls := "WithinWordsModel", name := "behindHere", desc := "(II)I" } : Jvm.MethodName)) ∈ lw_all := lw_g (lw_at lw_m6 59 rfl) rfl
theorem q1339 : (Jvm.Cond.code ({ cls := "WithinWordsModel", name := "behindHere", desc := "(II)I" } : Jvm.MethodName) prog_8_method_86_code (6 : Nat) (Option.some Jvm.ClassFile.FieldType.int)) ∈ lw_all := lw_g (lw_at lw_m6 60 rfl) rfl
theorem q1341 : (Jvm.Cond.instanceMethod ({ cls := "WithinWordsModel", name := "both", desc := "(II)I" } : Jvm.MethodName)) ∈ lw_all := lw_g (lw_at lw_m6 62 rfl) rfl
theorem q1342 : (Jvm.Cond.selects "WithinWordsModel" ({ cls := "WithinWordsModel", name := "both", desc := "(II)I" } : Jvm.MethodName) ({ cls := "WithinWordsModel", name := "both", desc := "(II)I" } : Jvm.MethodName)) ∈ lw_all := lw_g (lw_at lw_m6 63 rfl) rfl
theorem q1343 : (Jvm.Cond.code ({ cls := "WithinWordsModel", name := "both", desc := "(II)I" } : Jvm.MethodName) prog_8_method_89_code (9 : Nat) (Option.some Jvm.ClassFile.FieldType.int)) ∈ lw_all := lw_g (lw_at lw_m6 64 rfl) rfl
theorem q1345 : (Jvm.Cond.instanceMethod ({ cls := "WithinWordsModel", name := "twins", desc := "(III)I" } : Jvm.MethodName)) ∈ lw_all := lw_g (lw_at lw_m6 66 rfl) rfl
theorem q1346 : (Jvm.Cond.selects "WithinWordsModel" ({ cls := "WithinWordsModel", name := "twins", desc := "(III)I" } : Jvm.MethodName) ({ cls := "WithinWordsModel", name := "twins", desc := "(III)I" } : Jvm.MethodName)) ∈ lw_all := lw_g (lw_at lw_m6 67 rfl) rfl
theorem q1347 : (Jvm.Cond.code ({ cls := "WithinWordsModel", name := "twins", desc := "(III)I" } : Jvm.MethodName) prog_8_method_93_code (12 : Nat) (Option.some Jvm.ClassFile.FieldType.int)) ∈ lw_all := lw_g (lw_at lw_m6 68 rfl) rfl
theorem q1348 : (Jvm.Cond.constantLong "WithinWordsModel" (296 : Nat) (10000 : Int64)) ∈ lw_all := lw_g (lw_at lw_m6 69 rfl) rfl
theorem q1349 : (Jvm.Cond.methodLink "WithinWordsModel" (292 : Nat) ({ cls := "WithinWordsModel", name := "oftenIn", desc := "(III)J" } : Jvm.MethodName)) ∈ lw_all := lw_g (lw_at lw_m6 70 rfl) rfl
theorem q1350 : (Jvm.Cond.privateMethod ({ cls := "WithinWordsModel", name := "oftenIn", desc := "(III)J" } : Jvm.MethodName)) ∈ lw_tbl := lw_at lw_m6 71 rfl
theorem q1351 : (Jvm.Cond.instanceMethod ({ cls := "WithinWordsModel", name := "oftenIn", desc := "(III)J" } : Jvm.MethodName)) ∈ lw_all := lw_g (lw_at lw_m6 72 rfl) rfl
theorem q1352 : (Jvm.Cond.code ({ cls := "WithinWordsModel", name := "oftenIn", desc := "(III)J" } : Jvm.MethodName) prog_8_method_90_code (7 : Nat) (Option.some Jvm.ClassFile.FieldType.long)) ∈ lw_all := lw_g (lw_at lw_m6 73 rfl) rfl
theorem q1353 : (Jvm.Cond.methodLink "WithinWordsModel" (298 : Nat) ({ cls := "WithinWordsModel", name := "layOtherBy", desc := "(II)V" } : Jvm.MethodName)) ∈ lw_all := lw_g (lw_at lw_m6 74 rfl) rfl
theorem q1354 : (Jvm.Cond.privateMethod ({ cls := "WithinWordsModel", name := "layOtherBy", desc := "(II)V" } : Jvm.MethodName)) ∈ lw_tbl := lw_at lw_m6 75 rfl
theorem q1355 : (Jvm.Cond.instanceMethod ({ cls := "WithinWordsModel", name := "layOtherBy", desc := "(II)V" } : Jvm.MethodName)) ∈ lw_all := lw_g (lw_at lw_m6 76 rfl) rfl
theorem q1356 : (Jvm.Cond.code ({ cls := "WithinWordsModel", name := "layOtherBy", desc := "(II)V" } : Jvm.MethodName) prog_8_method_92_code (5 : Nat) (Option.none : Option Jvm.ClassFile.FieldType)) ∈ lw_all := lw_g (lw_at lw_m6 77 rfl) rfl
theorem q1357 : (Jvm.Cond.methodLink "WithinWordsModel" (301 : Nat) ({ cls := "WithinWordsModel", name := "isTwin", desc := "(III)Z" } : Jvm.MethodName)) ∈ lw_all := lw_g (lw_at lw_m6 78 rfl) rfl
theorem q1358 : (Jvm.Cond.privateMethod ({ cls := "WithinWordsModel", name := "isTwin", desc := "(III)Z" } : Jvm.MethodName)) ∈ lw_tbl := lw_at lw_m6 79 rfl
theorem q1359 : (Jvm.Cond.instanceMethod ({ cls := "WithinWordsModel", name := "isTwin", desc := "(III)Z" } : Jvm.MethodName)) ∈ lw_all := lw_g (lw_at lw_m6 80 rfl) rfl
theorem q1360 : (Jvm.Cond.code ({ cls := "WithinWordsModel", name := "isTwin", desc := "(III)Z" } : Jvm.MethodName) prog_8_method_91_code (6 : Nat) (Option.some Jvm.ClassFile.FieldType.boolean)) ∈ lw_all := lw_g (lw_at lw_m6 81 rfl) rfl
theorem q1362 : (Jvm.Cond.instanceMethod ({ cls := "WithinWordsModel", name := "odds", desc := "(II)I" } : Jvm.MethodName)) ∈ lw_all := lw_g (lw_at lw_m6 83 rfl) rfl
theorem q1363 : (Jvm.Cond.selects "WithinWordsModel" ({ cls := "WithinWordsModel", name := "odds", desc := "(II)I" } : Jvm.MethodName) ({ cls := "WithinWordsModel", name := "odds", desc := "(II)I" } : Jvm.MethodName)) ∈ lw_all := lw_g (lw_at lw_m6 84 rfl) rfl
theorem q1364 : (Jvm.Cond.code ({ cls := "WithinWordsModel", name := "odds", desc := "(II)I" } : Jvm.MethodName) prog_8_method_95_code (6 : Nat) (Option.some Jvm.ClassFile.FieldType.int)) ∈ lw_all := lw_g (lw_at lw_m6 85 rfl) rfl
theorem q1365 : (Jvm.Cond.methodLink "WithinWordsModel" (304 : Nat) ({ cls := "WithinWordsModel", name := "chosen", desc := "(II)J" } : Jvm.MethodName)) ∈ lw_all := lw_g (lw_at lw_m6 86 rfl) rfl
theorem q1366 : (Jvm.Cond.static ({ cls := "WithinWordsModel", name := "chosen", desc := "(II)J" } : Jvm.MethodName)) ∈ lw_all := lw_g (lw_at lw_m6 87 rfl) rfl
theorem q1367 : (Jvm.Cond.code ({ cls := "WithinWordsModel", name := "chosen", desc := "(II)J" } : Jvm.MethodName) prog_8_method_94_code (5 : Nat) (Option.some Jvm.ClassFile.FieldType.long)) ∈ lw_all := lw_g (lw_at lw_m6 88 rfl) rfl
theorem q1368 : (Jvm.Cond.methodLink "WithinWordsModel" (308 : Nat) ({ cls := "WithinWordsModel", name := "fraction", desc := "(JJI)I" } : Jvm.MethodName)) ∈ lw_all := lw_g (lw_at lw_m6 89 rfl) rfl
theorem q1369 : (Jvm.Cond.privateMethod ({ cls := "WithinWordsModel", name := "fraction", desc := "(JJI)I" } : Jvm.MethodName)) ∈ lw_tbl := lw_at lw_m6 90 rfl
theorem q1370 : (Jvm.Cond.instanceMethod ({ cls := "WithinWordsModel", name := "fraction", desc := "(JJI)I" } : Jvm.MethodName)) ∈ lw_all := lw_g (lw_at lw_m6 91 rfl) rfl
theorem q1371 : (Jvm.Cond.code ({ cls := "WithinWordsModel", name := "fraction", desc := "(JJI)I" } : Jvm.MethodName) prog_8_method_11_code (12 : Nat) (Option.some Jvm.ClassFile.FieldType.int)) ∈ lw_all := lw_g (lw_at lw_m6 92 rfl) rfl
theorem q1373 : (Jvm.Cond.instanceMethod ({ cls := "WithinWordsModel", name := "byChance", desc := "(II)I" } : Jvm.MethodName)) ∈ lw_all := lw_g (lw_at lw_m6 94 rfl) rfl
theorem q1374 : (Jvm.Cond.selects "WithinWordsModel" ({ cls := "WithinWordsModel", name := "byChance", desc := "(II)I" } : Jvm.MethodName) ({ cls := "WithinWordsModel", name := "byChance", desc := "(II)I" } : Jvm.MethodName)) ∈ lw_all := lw_g (lw_at lw_m6 95 rfl) rfl
theorem q1375 : (Jvm.Cond.code ({ cls := "WithinWordsModel", name := "byChance", desc := "(II)I" } : Jvm.MethodName) prog_8_method_96_code (7 : Nat) (Option.some Jvm.ClassFile.FieldType.int)) ∈ lw_all := lw_g (lw_at lw_m6 96 rfl) rfl
theorem q1377 : (Jvm.Cond.instanceMethod ({ cls := "WithinWordsModel", name := "count", desc := "(I)I" } : Jvm.MethodName)) ∈ lw_all := lw_g (lw_at lw_m6 98 rfl) rfl
theorem q1378 : (Jvm.Cond.selects "WithinWordsModel" ({ cls := "WithinWordsModel", name := "count", desc := "(I)I" } : Jvm.MethodName) ({ cls := "WithinWordsModel", name := "count", desc := "(I)I" } : Jvm.MethodName)) ∈ lw_all := lw_g (lw_at lw_m6 99 rfl) rfl
theorem q1379 : (Jvm.Cond.code ({ cls := "WithinWordsModel", name := "count", desc := "(I)I" } : Jvm.MethodName) prog_8_method_98_code (2 : Nat) (Option.some Jvm.ClassFile.FieldType.int)) ∈ lw_all := lw_g (lw_at lw_m6 100 rfl) rfl
theorem q1380 : (Jvm.Cond.methodLink "WithinWordsModel" (312 : Nat) ({ cls := "WithinWordsModel", name := "counted", desc := "(I)I" } : Jvm.MethodName)) ∈ lw_all := lw_g (lw_at lw_m6 101 rfl) rfl
theorem q1381 : (Jvm.Cond.privateMethod ({ cls := "WithinWordsModel", name := "counted", desc := "(I)I" } : Jvm.MethodName)) ∈ lw_tbl := lw_at lw_m6 102 rfl
theorem q1382 : (Jvm.Cond.instanceMethod ({ cls := "WithinWordsModel", name := "counted", desc := "(I)I" } : Jvm.MethodName)) ∈ lw_all := lw_g (lw_at lw_m6 103 rfl) rfl
theorem q1383 : (Jvm.Cond.code ({ cls := "WithinWordsModel", name := "counted", desc := "(I)I" } : Jvm.MethodName) prog_8_method_97_code (5 : Nat) (Option.some Jvm.ClassFile.FieldType.int)) ∈ lw_all := lw_g (lw_at lw_m6 104 rfl) rfl
theorem q1385 : (Jvm.Cond.instanceMethod ({ cls := "WithinWordsModel", name := "digest", desc := "()J" } : Jvm.MethodName)) ∈ lw_all := lw_g (lw_at lw_m6 106 rfl) rfl
theorem q1386 : (Jvm.Cond.selects "WithinWordsModel" ({ cls := "WithinWordsModel", name := "digest", desc := "()J" } : Jvm.MethodName) ({ cls := "WithinWordsModel", name := "digest", desc := "()J" } : Jvm.MethodName)) ∈ lw_all := lw_g (lw_at lw_m6 107 rfl) rfl
theorem q1387 : (Jvm.Cond.code ({ cls := "WithinWordsModel", name := "digest", desc := "()J" } : Jvm.MethodName) prog_8_method_101_code (3 : Nat) (Option.some Jvm.ClassFile.FieldType.long)) ∈ lw_all := lw_g (lw_at lw_m6 108 rfl) rfl
theorem q1388 : (Jvm.Cond.constantLong "WithinWordsModel" (326 : Nat) (17 : Int64)) ∈ lw_all := lw_g (lw_at lw_m6 109 rfl) rfl
theorem q1389 : (Jvm.Cond.methodLink "WithinWordsModel" (320 : Nat) ({ cls := "WithinWordsModel", name := "mix", desc := "(J)V" } : Jvm.MethodName)) ∈ lw_all := lw_g (lw_at lw_m6 110 rfl) rfl
theorem q1390 : (Jvm.Cond.privateMethod ({ cls := "WithinWordsModel", name := "mix", desc := "(J)V" } : Jvm.MethodName)) ∈ lw_tbl := lw_at lw_m6 111 rfl
theorem q1391 : (Jvm.Cond.instanceMethod ({ cls := "WithinWordsModel", name := "mix", desc := "(J)V" } : Jvm.MethodName)) ∈ lw_all := lw_g (lw_at lw_m6 112 rfl) rfl
theorem q1392 : (Jvm.Cond.code ({ cls := "WithinWordsModel", name := "mix", desc := "(J)V" } : Jvm.MethodName) prog_8_method_99_code (3 : Nat) (Option.none : Option Jvm.ClassFile.FieldType)) ∈ lw_all := lw_g (lw_at lw_m6 113 rfl) rfl
theorem q1393 : (Jvm.Cond.constantLong "WithinWordsModel" (315 : Nat) (31 : Int64)) ∈ lw_all := lw_g (lw_at lw_m6 114 rfl) rfl
theorem q1394 : (Jvm.Cond.methodLink "WithinWordsModel" (328 : Nat) ({ cls := "WithinWordsModel", name := "mixWord", desc := "(I)V" } : Jvm.MethodName)) ∈ lw_all := lw_g (lw_at lw_m6 115 rfl) rfl
theorem q1395 : (Jvm.Cond.privateMethod ({ cls := "WithinWordsModel", name := "mixWord", desc := "(I)V" } : Jvm.MethodName)) ∈ lw_tbl := lw_at lw_m6 116 rfl
theorem q1396 : (Jvm.Cond.instanceMethod ({ cls := "WithinWordsModel", name := "mixWord", desc := "(I)V" } : Jvm.MethodName)) ∈ lw_all := lw_g (lw_at lw_m6 117 rfl) rfl
theorem q1397 : (Jvm.Cond.code ({ cls := "WithinWordsModel", name := "mixWord", desc := "(I)V" } : Jvm.MethodName) prog_8_method_100_code (3 : Nat) (Option.none : Option Jvm.ClassFile.FieldType)) ∈ lw_all := lw_g (lw_at lw_m6 118 rfl) rfl
theorem q1398 : (Jvm.Cond.constantLong "WithinWordsModel" (324 : Nat) (-1 : Int64)) ∈ lw_all := lw_g (lw_at lw_m6 119 rfl) rfl
theorem in_X1 : ∀ w ∈ wsX10, w ∈ lw_all := lw_in wsX10 [913, 915, 917, 919, 921, 923, 925, 927, 929, 931, 933, 935, 937, 939, 941, 943, 945, 947, 949, 951, 953, 955, 957, 959, 961, 963, 965, 967, 969, 971, 973, 975, 977, 979, 981, 983, 985, 987, 989, 991, 993, 995, 997, 999] (by decide +kernel) (by decide +kernel)
